set_option maxRecDepth 100000
def S_isIn (a0 : Int32) (a1 : Int32) (a2 : Int32) : Option (Int32) :=
  if a0 < a1 then (
    zOk (0 : Int32)
  ) else (
    if a2 < a0 then (
      zOk (0 : Int32)
    ) else (
      zOk (1 : Int32)
    )
  )
set_option maxHeartbeats 4000000 in
set_option maxRecDepth 100000 in
theorem metS_isIn (l : Launch) {a0 : Int32} {a1 : Int32} {a2 : Int32} {r : Int32} (hf : S_isIn a0 a1 a2 = some r) : Met l yX1_isIn (ws_ yX1_isIn cX1_isIn 3 (some .boolean)) (rm0_ 0 0) (sP [.int a0, .int a1, .int a2]) (sQ (some (.int r))) 0 0 (fun _ => False) := by
  refine qs_met (by decide) RX1 rfl (Nat.le_of_ble_eq_true rfl) (fun Γ hΓ => ?_)
  refine g_sub [0, 1, 2] (lv' := [(0, .int a0), (1, .int a1), (2, .int a2)]) rfl ?_
  refine g_iload_n hΓ (pc := 0) 0 (i := 0) dX1_isIn_0 rfl rfl ?_
  refine g_iload_n hΓ (pc := 1) 1 (i := 1) dX1_isIn_1 rfl rfl ?_
  refine g_icmp_lt hΓ (pc := 2) (tgt := 14) dX1_isIn_2 (by decide) (fun c1 => ?_) (fun c1 => ?_)
  · have hf := ifP hf c1
    refine g_iconst hΓ (pc := 14) (v := 0) dX1_isIn_14 (by decide) ?_
    exact qs_zret hΓ hf dX1_isIn_15
  · have hf := ifN hf c1
    refine g_iload_n hΓ (pc := 5) 0 (i := 0) dX1_isIn_5 rfl rfl ?_
    refine g_iload_n hΓ (pc := 6) 2 (i := 2) dX1_isIn_6 rfl rfl ?_
    refine g_icmp_gt hΓ (pc := 7) (tgt := 14) dX1_isIn_7 (by decide) (fun c2 => ?_) (fun c2 => ?_)
    · have hf := ifP hf c2
      refine g_iconst hΓ (pc := 14) (v := 0) dX1_isIn_14 (by decide) ?_
      exact qs_zret hΓ hf dX1_isIn_15
    · have hf := ifN hf c2
      refine g_iconst hΓ (pc := 10) (v := 1) dX1_isIn_10 (by decide) ?_
      refine g_goto hΓ (pc := 11) (tgt := 15) dX1_isIn_11 (by decide) ?_
      exact qs_zret hΓ hf dX1_isIn_15
def S_has (a0 : Int32) (a1 : Int32) : Option (Int32) :=
  if ((a0 >>> (a1 &&& 31)) &&& (1 : Int32)) = (1 : Int32) then (
    zOk (1 : Int32)
  ) else (
    zOk (0 : Int32)
  )
set_option maxHeartbeats 4000000 in
set_option maxRecDepth 100000 in
theorem metS_has (l : Launch) {a0 : Int32} {a1 : Int32} {r : Int32} (hf : S_has a0 a1 = some r) : Met l yX1_has (ws_ yX1_has cX1_has 2 (some .boolean)) (rm0_ 0 0) (sP [.int a0, .int a1]) (sQ (some (.int r))) 0 0 (fun _ => False) := by
  refine qs_met (by decide) RX1 rfl (Nat.le_of_ble_eq_true rfl) (fun Γ hΓ => ?_)
  refine g_sub [0, 1] (lv' := [(0, .int a0), (1, .int a1)]) rfl ?_
  refine g_iload_n hΓ (pc := 0) 0 (i := 0) dX1_has_0 rfl rfl ?_
  refine g_iload_n hΓ (pc := 1) 1 (i := 1) dX1_has_1 rfl rfl ?_
  refine g_ishr hΓ (pc := 2) dX1_has_2 ?_
  refine g_iconst hΓ (pc := 3) (v := 1) dX1_has_3 (by decide) ?_
  refine g_iand hΓ (pc := 4) dX1_has_4 ?_
  refine g_iconst hΓ (pc := 5) (v := 1) dX1_has_5 (by decide) ?_
  refine g_icmp_ne hΓ (pc := 6) (tgt := 13) dX1_has_6 (by decide) (fun c1 => ?_) (fun c1 => ?_)
  · have hf := ifN hf c1
    refine g_iconst hΓ (pc := 13) (v := 0) dX1_has_13 (by decide) ?_
    exact qs_zret hΓ hf dX1_has_14
  · have hf := ifP hf c1
    refine g_iconst hΓ (pc := 9) (v := 1) dX1_has_9 (by decide) ?_
    refine g_goto hΓ (pc := 10) (tgt := 14) dX1_has_10 (by decide) ?_
    exact qs_zret hΓ hf dX1_has_14
def S_bits_4s (k4 : Int32 → Int32 → Option (Int32)) (y1 : Int32) (y2 : Int32) : Option (Int32) :=
  if y2 = 0 then (
    some y1
  ) else (
    (some (y1 + 1)).bind fun x2 =>
    (some (y2 &&& (y2 - (1 : Int32)))).bind fun x3 =>
    k4 x2 x3
  )
def S_bits_4 : Nat → Int32 → Int32 → Option (Int32)
  | 0 => fun _ _ => none
  | n + 1 => S_bits_4s   (S_bits_4   n)
def S_bits (a0 : Int32) : Option (Int32) :=
  S_bits_4 200 (0 : Int32) a0
set_option maxHeartbeats 4000000 in
set_option maxRecDepth 100000 in
theorem metS_bits (l : Launch) {a0 : Int32} {r : Int32} (hf : S_bits a0 = some r) : Met l yX1_bits (ws_ yX1_bits cX1_bits 3 (some .int)) (rm0_ 0 0) (sP [.int a0]) (sQ (some (.int r))) 0 0 (fun _ => False) := by
  refine qs_met (by decide) RX1 rfl (Nat.le_of_ble_eq_true rfl) (fun Γ hΓ => ?_)
  refine g_sub [0] (lv' := [(0, .int a0)]) rfl ?_
  have S4 : ∀ (k4 : Int32 → Int32 → Option (Int32)) (hk4 : ∀ (y1 : Int32) (y2 : Int32), k4 y1 y2 = some r → WG Γ (same Γ) 0 0 4 [(1, .int y1), (2, .int y2)] []) (y1 : Int32) (y2 : Int32) (hf : S_bits_4s  k4 y1 y2 = some r), WG Γ (same Γ) 0 0 4 [(1, .int y1), (2, .int y2)] [] := by
    intro k4 hk4 y1 y2 hf
    refine g_iload_n hΓ (pc := 4) 1 (i := 2) dX1_bits_4 rfl rfl ?_
    refine g_if_eq hΓ (pc := 5) (tgt := 20) dX1_bits_5 (by decide) (fun c1 => ?_) (fun c1 => ?_)
    · have hf := ifP hf c1
      refine g_iload_n hΓ (pc := 20) 0 (i := 1) dX1_bits_20 rfl rfl ?_
      exact qs_iret hΓ hf dX1_bits_21
    · have hf := ifN hf c1
      obtain ⟨x2, hx2, hf⟩ := bindE hf
      refine g_iinc hΓ (pc := 8) 0 (i := 1) (v := x2) (lv' := [(1, .int x2), (2, .int y2)]) dX1_bits_8 rfl (Option.some.inj hx2) (by decide) rfl ?_
      refine g_iload_n hΓ (pc := 11) 1 (i := 2) dX1_bits_11 rfl rfl ?_
      refine g_iload_n hΓ (pc := 12) 1 (i := 2) dX1_bits_12 rfl rfl ?_
      refine g_iconst hΓ (pc := 13) (v := 1) dX1_bits_13 (by decide) ?_
      refine g_isub hΓ (pc := 14) dX1_bits_14 ?_
      refine g_iand hΓ (pc := 15) dX1_bits_15 ?_
      obtain ⟨x3, hx3, hf⟩ := bindE hf
      refine g_topi hx3 ?_
      refine g_istore_n hΓ (pc := 16) (i := 2) (lv' := [(2, .int x3), (1, .int x2)]) dX1_bits_16 rfl (by decide) rfl ?_
      refine g_goto hΓ (pc := 17) (tgt := 4) dX1_bits_17 (by decide) ?_
      exact g_sub [1, 0] rfl (hk4 _ _ hf)
  have L4 : ∀ (n : Nat) (y1 : Int32) (y2 : Int32) (hf : S_bits_4   n y1 y2 = some r), WG Γ (same Γ) 0 0 4 [(1, .int y1), (2, .int y2)] [] := by
    intro  n
    induction n with
    | zero => intro y1 y2 hf; exact nomatch (show (none : Option (Int32)) = some _ from hf)
    | succ n ih => exact S4  _ ih
  refine g_iconst hΓ (pc := 0) (v := 0) dX1_bits_0 (by decide) ?_
  refine g_istore_n hΓ (pc := 1) (i := 1) (lv' := [(1, .int (0 : Int32)), (0, .int a0)]) dX1_bits_1 rfl (by decide) rfl ?_
  refine g_iload_n hΓ (pc := 2) 1 (i := 0) dX1_bits_2 rfl rfl ?_
  refine g_istore_n hΓ (pc := 3) (i := 2) (lv' := [(2, .int a0), (1, .int (0 : Int32)), (0, .int a0)]) dX1_bits_3 rfl (by decide) rfl ?_
  exact g_sub [1, 0] rfl (L4  200 _ _ hf)
def S_isPlace (a0 : Int32) : Option (Int32) :=
  (S_isIn a0 (0 : Int32) (5 : Int32)).bind fun x1 =>
  zOk x1
set_option maxHeartbeats 4000000 in
set_option maxRecDepth 100000 in
theorem metS_isPlace (l : Launch) {a0 : Int32} {r : Int32} (hf : S_isPlace a0 = some r) : Met l yX1_isPlace (ws_ yX1_isPlace cX1_isPlace 1 (some .boolean)) (rm0_ 1 22) (sP [.int a0]) (sQ (some (.int r))) 0 0 (fun _ => False) := by
  refine qs_met (by decide) RX1 rfl (Nat.le_of_ble_eq_true rfl) (fun Γ hΓ => ?_)
  refine g_sub [0] (lv' := [(0, .int a0)]) rfl ?_
  refine g_iload_n hΓ (pc := 0) 0 (i := 0) dX1_isPlace_0 rfl rfl ?_
  refine g_iconst hΓ (pc := 1) (v := 0) dX1_isPlace_1 (by decide) ?_
  refine g_iconst hΓ (pc := 2) (v := 5) dX1_isPlace_2 (by decide) ?_
  obtain ⟨x1, hx1, hf⟩ := bindE hf
  refine qg_callS hΓ (pc := 3) 3 (As := [.int a0, .int (0 : Int32), .int (5 : Int32)]) (metS_isIn _ hx1) (lw_S q89 q90 q54 q91) (by decide +kernel) (by decide) rfl rfl (Nat.le_of_ble_eq_true rfl) dX1_isPlace_3 ?_
  exact qs_zret hΓ hf dX1_isPlace_6
def S_isShelf (a0 : Int32) : Option (Int32) :=
  (S_isIn a0 (0 : Int32) (7 : Int32)).bind fun x1 =>
  zOk x1
set_option maxHeartbeats 4000000 in
set_option maxRecDepth 100000 in
theorem metS_isShelf (l : Launch) {a0 : Int32} {r : Int32} (hf : S_isShelf a0 = some r) : Met l yX1_isShelf (ws_ yX1_isShelf cX1_isShelf 1 (some .boolean)) (rm0_ 1 22) (sP [.int a0]) (sQ (some (.int r))) 0 0 (fun _ => False) := by
  refine qs_met (by decide) RX1 rfl (Nat.le_of_ble_eq_true rfl) (fun Γ hΓ => ?_)
  refine g_sub [0] (lv' := [(0, .int a0)]) rfl ?_
  refine g_iload_n hΓ (pc := 0) 0 (i := 0) dX1_isShelf_0 rfl rfl ?_
  refine g_iconst hΓ (pc := 1) (v := 0) dX1_isShelf_1 (by decide) ?_
  refine g_bipush hΓ (pc := 2) (v := 7) dX1_isShelf_2 (by decide) ?_
  obtain ⟨x1, hx1, hf⟩ := bindE hf
  refine qg_callS hΓ (pc := 4) 3 (As := [.int a0, .int (0 : Int32), .int (7 : Int32)]) (metS_isIn _ hx1) (lw_S q89 q90 q54 q91) (by decide +kernel) (by decide) rfl rfl (Nat.le_of_ble_eq_true rfl) dX1_isShelf_4 ?_
  exact qs_zret hΓ hf dX1_isShelf_7
def S_divisor_4s (k4 : Int32 → Int32 → Option (Int32)) (y2 : Int32) (y3 : Int32) : Option (Int32) :=
  if y3 = 0 then (
    some y2
  ) else (
    if y3 = 0 then none else
    (some (y2 - y2 / y3 * y3)).bind fun x3 =>
    k4 y3 x3
  )
def S_divisor_4 : Nat → Int32 → Int32 → Option (Int32)
  | 0 => fun _ _ => none
  | n + 1 => S_divisor_4s   (S_divisor_4   n)
def S_divisor (a0 : Int32) (a1 : Int32) : Option (Int32) :=
  S_divisor_4 200 a0 a1
set_option maxHeartbeats 4000000 in
set_option maxRecDepth 100000 in
theorem metS_divisor (l : Launch) {a0 : Int32} {a1 : Int32} {r : Int32} (hf : S_divisor a0 a1 = some r) : Met l yX1_divisor (ws_ yX1_divisor cX1_divisor 5 (some .int)) (rm0_ 0 0) (sP [.int a0, .int a1]) (sQ (some (.int r))) 0 0 (fun _ => False) := by
  refine qs_met (by decide) RX1 rfl (Nat.le_of_ble_eq_true rfl) (fun Γ hΓ => ?_)
  refine g_sub [0, 1] (lv' := [(0, .int a0), (1, .int a1)]) rfl ?_
  have S4 : ∀ (k4 : Int32 → Int32 → Option (Int32)) (hk4 : ∀ (y2 : Int32) (y3 : Int32), k4 y2 y3 = some r → WG Γ (same Γ) 0 0 4 [(2, .int y2), (3, .int y3)] []) (y2 : Int32) (y3 : Int32) (hf : S_divisor_4s  k4 y2 y3 = some r), WG Γ (same Γ) 0 0 4 [(2, .int y2), (3, .int y3)] [] := by
    intro k4 hk4 y2 y3 hf
    refine g_iload_n hΓ (pc := 4) 1 (i := 3) dX1_divisor_4 rfl rfl ?_
    refine g_if_eq hΓ (pc := 5) (tgt := 21) dX1_divisor_5 (by decide) (fun c1 => ?_) (fun c1 => ?_)
    · have hf := ifP hf c1
      refine g_iload_n hΓ (pc := 21) 0 (i := 2) dX1_divisor_21 rfl rfl ?_
      exact qs_iret hΓ hf dX1_divisor_22
    · have hf := ifN hf c1
      refine g_iload_n hΓ (pc := 8) 0 (i := 2) dX1_divisor_8 rfl rfl ?_
      refine g_iload_n hΓ (pc := 9) 1 (i := 3) dX1_divisor_9 rfl rfl ?_
      obtain ⟨e2, hf⟩ := nzE hf
      refine g_irem hΓ (pc := 10) dX1_divisor_10 e2 ?_
      obtain ⟨x3, hx3, hf⟩ := bindE hf
      refine g_topi hx3 ?_
      refine g_istore hΓ (pc := 11) (i := 4) (lv' := [(4, .int x3), (2, .int y2), (3, .int y3)]) dX1_divisor_11 (by decide) rfl ?_
      refine g_iload_n hΓ (pc := 13) 2 (i := 3) dX1_divisor_13 rfl rfl ?_
      refine g_istore_n hΓ (pc := 14) (i := 2) (lv' := [(2, .int y3), (4, .int x3), (3, .int y3)]) dX1_divisor_14 rfl (by decide) rfl ?_
      refine g_iload hΓ (pc := 15) 1 (i := 4) dX1_divisor_15 rfl ?_
      refine g_istore_n hΓ (pc := 17) (i := 3) (lv' := [(3, .int x3), (2, .int y3), (4, .int x3)]) dX1_divisor_17 rfl (by decide) rfl ?_
      refine g_goto hΓ (pc := 18) (tgt := 4) dX1_divisor_18 (by decide) ?_
      exact g_sub [1, 0] rfl (hk4 _ _ hf)
  have L4 : ∀ (n : Nat) (y2 : Int32) (y3 : Int32) (hf : S_divisor_4   n y2 y3 = some r), WG Γ (same Γ) 0 0 4 [(2, .int y2), (3, .int y3)] [] := by
    intro  n
    induction n with
    | zero => intro y2 y3 hf; exact nomatch (show (none : Option (Int32)) = some _ from hf)
    | succ n ih => exact S4  _ ih
  refine g_iload_n hΓ (pc := 0) 0 (i := 0) dX1_divisor_0 rfl rfl ?_
  refine g_istore_n hΓ (pc := 1) (i := 2) (lv' := [(2, .int a0), (0, .int a0), (1, .int a1)]) dX1_divisor_1 rfl (by decide) rfl ?_
  refine g_iload_n hΓ (pc := 2) 2 (i := 1) dX1_divisor_2 rfl rfl ?_
  refine g_istore_n hΓ (pc := 3) (i := 3) (lv' := [(3, .int a1), (2, .int a0), (0, .int a0), (1, .int a1)]) dX1_divisor_3 rfl (by decide) rfl ?_
  exact g_sub [1, 0] rfl (L4  200 _ _ hf)
def S_isAhead (a0 : Int32) : Option (Int32) :=
  (S_isIn a0 (0 : Int32) (60 : Int32)).bind fun x1 =>
  zOk x1
set_option maxHeartbeats 4000000 in
set_option maxRecDepth 100000 in
theorem metS_isAhead (l : Launch) {a0 : Int32} {r : Int32} (hf : S_isAhead a0 = some r) : Met l yX1_isAhead (ws_ yX1_isAhead cX1_isAhead 1 (some .boolean)) (rm0_ 1 22) (sP [.int a0]) (sQ (some (.int r))) 0 0 (fun _ => False) := by
  refine qs_met (by decide) RX1 rfl (Nat.le_of_ble_eq_true rfl) (fun Γ hΓ => ?_)
  refine g_sub [0] (lv' := [(0, .int a0)]) rfl ?_
  refine g_iload_n hΓ (pc := 0) 0 (i := 0) dX1_isAhead_0 rfl rfl ?_
  refine g_iconst hΓ (pc := 1) (v := 0) dX1_isAhead_1 (by decide) ?_
  refine g_bipush hΓ (pc := 2) (v := 60) dX1_isAhead_2 (by decide) ?_
  obtain ⟨x1, hx1, hf⟩ := bindE hf
  refine qg_callS hΓ (pc := 4) 3 (As := [.int a0, .int (0 : Int32), .int (60 : Int32)]) (metS_isIn _ hx1) (lw_S q89 q90 q54 q91) (by decide +kernel) (by decide) rfl rfl (Nat.le_of_ble_eq_true rfl) dX1_isAhead_4 ?_
  exact qs_zret hΓ hf dX1_isAhead_7

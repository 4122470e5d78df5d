/-! WhoseGlassModel -/
set_option maxRecDepth 100000
def RX4 : String := "WhoseGlassModel"
def TX4 : u_T := fun k => match k with
  | 0 => ("WhoseGlassModel", "glasses", "I", false)
  | 1 => ("WhoseGlassModel", "guests", "I", false)
  | 2 => ("WhoseGlassModel", "tray0", "I", false)
  | 3 => ("WhoseGlassModel", "minute", "I", false)
  | 4 => ("WhoseGlassModel", "kinds", "[I", true)
  | 5 => ("WhoseGlassModel", "figures", "[I", true)
  | 6 => ("WhoseGlassModel", "fills", "[I", true)
  | 7 => ("WhoseGlassModel", "wheres", "[I", true)
  | 8 => ("WhoseGlassModel", "laid", "[I", true)
  | 9 => ("WhoseGlassModel", "sips", "[I", true)
  | 10 => ("WhoseGlassModel", "germs", "[I", true)
  | 11 => ("WhoseGlassModel", "paces", "[I", true)
  | 12 => ("WhoseGlassModel", "lays", "[I", true)
  | 13 => ("WhoseGlassModel", "steps", "[I", true)
  | 14 => ("WhoseGlassModel", "cares", "[I", true)
  | 15 => ("WhoseGlassModel", "places", "[I", true)
  | 16 => ("WhoseGlassModel", "holds", "[I", true)
  | 17 => ("WhoseGlassModel", "owns", "[I", true)
  | 18 => ("WhoseGlassModel", "hads", "[I", true)
  | 19 => ("WhoseGlassModel", "cold", "[I", true)
  | 20 => ("WhoseGlassModel", "wrongs", "I", false)
  | 21 => ("WhoseGlassModel", "freshes", "I", false)
  | 22 => ("WhoseGlassModel", "closed", "I", false)
  | 23 => ("WhoseGlassModel", "thrown", "I", false)
  | 24 => ("WhoseGlassModel", "kept", "[I", true)
  | 25 => ("WhoseGlassModel", "imaged", "[I", true)
  | 26 => ("WhoseGlassModel", "hasImage", "Z", false)
  | 27 => ("WhoseGlassModel", "place0", "I", false)
  | 28 => ("WhoseGlassModel", "isTaking", "Z", false)
  | 29 => ("WhoseGlassModel", "keptIn", "[I", false)
  | 30 => ("WhoseGlassModel", "base", "I", false)
  | 31 => ("WhoseGlassModel", "end", "I", false)
  | 32 => ("WhoseGlassModel", "at", "I", false)
  | 33 => ("WhoseGlassModel", "isBad", "Z", false)
  | 34 => ("WhoseGlassModel", "statements", "I", false)
  | 35 => ("WhoseGlassModel", "placeOf", "[I", true)
  | 36 => ("WhoseGlassModel", "letterOf", "[I", true)
  | 37 => ("WhoseGlassModel", "told", "[I", true)
  | 38 => ("WhoseGlassModel", "seed", "I", false)
  | 39 => ("WhoseGlassModel", "holdsWhat", "[I", true)
  | 40 => ("WhoseGlassModel", "keptKind", "[I", true)
  | 41 => ("WhoseGlassModel", "keptFigure", "[I", true)
  | 42 => ("WhoseGlassModel", "rowSort", "[I", true)
  | 43 => ("WhoseGlassModel", "rowMany", "[I", true)
  | 44 => ("WhoseGlassModel", "rows", "[J", true)
  | _ => ("WhoseGlassModel", "between", "[J", true)
def tyX4 : Nat → FieldType := fun k => match k with
  | 0 => .int
  | 1 => .int
  | 2 => .int
  | 3 => .int
  | 4 => .array .int
  | 5 => .array .int
  | 6 => .array .int
  | 7 => .array .int
  | 8 => .array .int
  | 9 => .array .int
  | 10 => .array .int
  | 11 => .array .int
  | 12 => .array .int
  | 13 => .array .int
  | 14 => .array .int
  | 15 => .array .int
  | 16 => .array .int
  | 17 => .array .int
  | 18 => .array .int
  | 19 => .array .int
  | 20 => .int
  | 21 => .int
  | 22 => .int
  | 23 => .int
  | 24 => .array .int
  | 25 => .array .int
  | 26 => .boolean
  | 27 => .int
  | 28 => .boolean
  | 29 => .array .int
  | 30 => .int
  | 31 => .int
  | 32 => .int
  | 33 => .boolean
  | 34 => .int
  | 35 => .array .int
  | 36 => .array .int
  | 37 => .array .int
  | 38 => .int
  | 39 => .array .int
  | 40 => .array .int
  | 41 => .array .int
  | 42 => .array .int
  | 43 => .array .int
  | 44 => .array .long
  | _ => .array .long
abbrev wsX40 : List Cond := u_ws RX4 TX4 46
set_option maxRecDepth 100000 in
theorem nmX4 : ∀ a, a < 46 → ∀ b, b < 46 → a ≠ b → (TX4 a).2.1 ≠ (TX4 b).2.1 := by decide +kernel
set_option maxRecDepth 100000 in
theorem tyX4_ok : ∀ k, k < 46 → parseFieldDescriptor (TX4 k).2.2.1 = some (tyX4 k) := by decide +kernel
abbrev cX4_init : ByteArray := prog_21_method_1_code
def yX4_init : MethodName := ⟨RX4, "<init>", "()V"⟩
def dkwX4_init_10 : List UInt8 := [16, 100, 188, 11, 181, 0, 99, 42, 3, 181, 0, 102, 177]
abbrev dktX4_init_10 : List UInt8 := dkwX4_init_10 ++ []
def dkwX4_init_9 : List UInt8 := [188, 10, 181, 0, 89, 42, 16, 8, 188, 10, 181, 0, 92, 42, 17, 3, 32, 188, 11, 181, 0, 95, 42]
abbrev dktX4_init_9 : List UInt8 := dkwX4_init_9 ++ dktX4_init_10
def dkwX4_init_8 : List UInt8 := [188, 10, 181, 0, 80, 42, 16, 8, 188, 10, 181, 0, 83, 42, 16, 8, 188, 10, 181, 0, 86, 42, 16, 8]
abbrev dktX4_init_8 : List UInt8 := dkwX4_init_8 ++ dktX4_init_9
def dkwX4_init_7 : List UInt8 := [181, 0, 71, 42, 16, 51, 188, 10, 181, 0, 74, 42, 17, 0, 255, 188, 10, 181, 0, 77, 42, 16, 8]
abbrev dktX4_init_7 : List UInt8 := dkwX4_init_7 ++ dktX4_init_8
def dkwX4_init_6 : List UInt8 := [42, 17, 0, 142, 188, 10, 181, 0, 65, 42, 17, 0, 142, 188, 10, 181, 0, 68, 42, 16, 51, 188, 10]
abbrev dktX4_init_6 : List UInt8 := dkwX4_init_6 ++ dktX4_init_7
def dkwX4_init_5 : List UInt8 := [181, 0, 53, 42, 16, 6, 188, 10, 181, 0, 56, 42, 16, 6, 188, 10, 181, 0, 59, 42, 2, 181, 0, 62]
abbrev dktX4_init_5 : List UInt8 := dkwX4_init_5 ++ dktX4_init_6
def dkwX4_init_4 : List UInt8 := [181, 0, 44, 42, 16, 6, 188, 10, 181, 0, 47, 42, 16, 6, 188, 10, 181, 0, 50, 42, 16, 6, 188, 10]
abbrev dktX4_init_4 : List UInt8 := dkwX4_init_4 ++ dktX4_init_5
def dkwX4_init_3 : List UInt8 := [181, 0, 35, 42, 16, 6, 188, 10, 181, 0, 38, 42, 16, 6, 188, 10, 181, 0, 41, 42, 16, 6, 188, 10]
abbrev dktX4_init_3 : List UInt8 := dkwX4_init_3 ++ dktX4_init_4
def dkwX4_init_2 : List UInt8 := [181, 0, 26, 42, 16, 12, 188, 10, 181, 0, 29, 42, 16, 12, 188, 10, 181, 0, 32, 42, 16, 6, 188, 10]
abbrev dktX4_init_2 : List UInt8 := dkwX4_init_2 ++ dktX4_init_3
def dkwX4_init_1 : List UInt8 := [181, 0, 17, 42, 16, 12, 188, 10, 181, 0, 20, 42, 16, 12, 188, 10, 181, 0, 23, 42, 16, 12, 188, 10]
abbrev dktX4_init_1 : List UInt8 := dkwX4_init_1 ++ dktX4_init_2
def dkwX4_init_0 : List UInt8 := [42, 183, 0, 1, 42, 16, 20, 181, 0, 7, 42, 16, 12, 188, 10, 181, 0, 13, 42, 16, 12, 188, 10]
abbrev dktX4_init_0 : List UInt8 := dkwX4_init_0 ++ dktX4_init_1
theorem dksX4_init_0 : cX4_init.data.toList.drop 0 = dktX4_init_0 := by decide +kernel
theorem dksX4_init_1 : cX4_init.data.toList.drop 23 = dktX4_init_1 := dk_seg dksX4_init_0 23 rfl rfl
theorem dksX4_init_2 : cX4_init.data.toList.drop 47 = dktX4_init_2 := dk_seg dksX4_init_1 24 rfl rfl
theorem dksX4_init_3 : cX4_init.data.toList.drop 71 = dktX4_init_3 := dk_seg dksX4_init_2 24 rfl rfl
theorem dksX4_init_4 : cX4_init.data.toList.drop 95 = dktX4_init_4 := dk_seg dksX4_init_3 24 rfl rfl
theorem dksX4_init_5 : cX4_init.data.toList.drop 119 = dktX4_init_5 := dk_seg dksX4_init_4 24 rfl rfl
theorem dksX4_init_6 : cX4_init.data.toList.drop 143 = dktX4_init_6 := dk_seg dksX4_init_5 24 rfl rfl
theorem dksX4_init_7 : cX4_init.data.toList.drop 166 = dktX4_init_7 := dk_seg dksX4_init_6 23 rfl rfl
theorem dksX4_init_8 : cX4_init.data.toList.drop 189 = dktX4_init_8 := dk_seg dksX4_init_7 23 rfl rfl
theorem dksX4_init_9 : cX4_init.data.toList.drop 213 = dktX4_init_9 := dk_seg dksX4_init_8 24 rfl rfl
theorem dksX4_init_10 : cX4_init.data.toList.drop 236 = dktX4_init_10 := dk_seg dksX4_init_9 23 rfl rfl
theorem dX4_init_0 : decode cX4_init 0 = .ok (.aload_n 0, 1) := dk_42 (dk_at dksX4_init_0 0 rfl rfl)
theorem dX4_init_1 : decode cX4_init 1 = .ok (.invokespecial 1, 3) := dk_183 0 1 (dk_at dksX4_init_0 1 rfl rfl)
theorem dX4_init_4 : decode cX4_init 4 = .ok (.aload_n 0, 1) := dk_42 (dk_at dksX4_init_0 4 rfl rfl)
theorem dX4_init_5 : decode cX4_init 5 = .ok (.bipush 20, 2) := dk_16 20 (dk_at dksX4_init_0 5 rfl rfl)
theorem dX4_init_7 : decode cX4_init 7 = .ok (.putfield 7, 3) := dk_181 0 7 (dk_at dksX4_init_0 7 rfl rfl)
theorem dX4_init_10 : decode cX4_init 10 = .ok (.aload_n 0, 1) := dk_42 (dk_at dksX4_init_0 10 rfl rfl)
theorem dX4_init_11 : decode cX4_init 11 = .ok (.bipush 12, 2) := dk_16 12 (dk_at dksX4_init_0 11 rfl rfl)
theorem dX4_init_13 : decode cX4_init 13 = .ok (.newarray .int, 2) := dk_188_10 (dk_at dksX4_init_0 13 rfl rfl)
theorem dX4_init_15 : decode cX4_init 15 = .ok (.putfield 13, 3) := dk_181 0 13 (dk_at dksX4_init_0 15 rfl rfl)
theorem dX4_init_18 : decode cX4_init 18 = .ok (.aload_n 0, 1) := dk_42 (dk_at dksX4_init_0 18 rfl rfl)
theorem dX4_init_19 : decode cX4_init 19 = .ok (.bipush 12, 2) := dk_16 12 (dk_at dksX4_init_0 19 rfl rfl)
theorem dX4_init_21 : decode cX4_init 21 = .ok (.newarray .int, 2) := dk_188_10 (dk_at dksX4_init_0 21 rfl rfl)
theorem dX4_init_23 : decode cX4_init 23 = .ok (.putfield 17, 3) := dk_181 0 17 (dk_at dksX4_init_1 0 rfl rfl)
theorem dX4_init_26 : decode cX4_init 26 = .ok (.aload_n 0, 1) := dk_42 (dk_at dksX4_init_1 3 rfl rfl)
theorem dX4_init_27 : decode cX4_init 27 = .ok (.bipush 12, 2) := dk_16 12 (dk_at dksX4_init_1 4 rfl rfl)
theorem dX4_init_29 : decode cX4_init 29 = .ok (.newarray .int, 2) := dk_188_10 (dk_at dksX4_init_1 6 rfl rfl)
theorem dX4_init_31 : decode cX4_init 31 = .ok (.putfield 20, 3) := dk_181 0 20 (dk_at dksX4_init_1 8 rfl rfl)
theorem dX4_init_34 : decode cX4_init 34 = .ok (.aload_n 0, 1) := dk_42 (dk_at dksX4_init_1 11 rfl rfl)
theorem dX4_init_35 : decode cX4_init 35 = .ok (.bipush 12, 2) := dk_16 12 (dk_at dksX4_init_1 12 rfl rfl)
theorem dX4_init_37 : decode cX4_init 37 = .ok (.newarray .int, 2) := dk_188_10 (dk_at dksX4_init_1 14 rfl rfl)
theorem dX4_init_39 : decode cX4_init 39 = .ok (.putfield 23, 3) := dk_181 0 23 (dk_at dksX4_init_1 16 rfl rfl)
theorem dX4_init_42 : decode cX4_init 42 = .ok (.aload_n 0, 1) := dk_42 (dk_at dksX4_init_1 19 rfl rfl)
theorem dX4_init_43 : decode cX4_init 43 = .ok (.bipush 12, 2) := dk_16 12 (dk_at dksX4_init_1 20 rfl rfl)
theorem dX4_init_45 : decode cX4_init 45 = .ok (.newarray .int, 2) := dk_188_10 (dk_at dksX4_init_1 22 rfl rfl)
theorem dX4_init_47 : decode cX4_init 47 = .ok (.putfield 26, 3) := dk_181 0 26 (dk_at dksX4_init_2 0 rfl rfl)
theorem dX4_init_50 : decode cX4_init 50 = .ok (.aload_n 0, 1) := dk_42 (dk_at dksX4_init_2 3 rfl rfl)
theorem dX4_init_51 : decode cX4_init 51 = .ok (.bipush 12, 2) := dk_16 12 (dk_at dksX4_init_2 4 rfl rfl)
theorem dX4_init_53 : decode cX4_init 53 = .ok (.newarray .int, 2) := dk_188_10 (dk_at dksX4_init_2 6 rfl rfl)
theorem dX4_init_55 : decode cX4_init 55 = .ok (.putfield 29, 3) := dk_181 0 29 (dk_at dksX4_init_2 8 rfl rfl)
theorem dX4_init_58 : decode cX4_init 58 = .ok (.aload_n 0, 1) := dk_42 (dk_at dksX4_init_2 11 rfl rfl)
theorem dX4_init_59 : decode cX4_init 59 = .ok (.bipush 12, 2) := dk_16 12 (dk_at dksX4_init_2 12 rfl rfl)
theorem dX4_init_61 : decode cX4_init 61 = .ok (.newarray .int, 2) := dk_188_10 (dk_at dksX4_init_2 14 rfl rfl)
theorem dX4_init_63 : decode cX4_init 63 = .ok (.putfield 32, 3) := dk_181 0 32 (dk_at dksX4_init_2 16 rfl rfl)
theorem dX4_init_66 : decode cX4_init 66 = .ok (.aload_n 0, 1) := dk_42 (dk_at dksX4_init_2 19 rfl rfl)
theorem dX4_init_67 : decode cX4_init 67 = .ok (.bipush 6, 2) := dk_16 6 (dk_at dksX4_init_2 20 rfl rfl)
theorem dX4_init_69 : decode cX4_init 69 = .ok (.newarray .int, 2) := dk_188_10 (dk_at dksX4_init_2 22 rfl rfl)
theorem dX4_init_71 : decode cX4_init 71 = .ok (.putfield 35, 3) := dk_181 0 35 (dk_at dksX4_init_3 0 rfl rfl)
theorem dX4_init_74 : decode cX4_init 74 = .ok (.aload_n 0, 1) := dk_42 (dk_at dksX4_init_3 3 rfl rfl)
theorem dX4_init_75 : decode cX4_init 75 = .ok (.bipush 6, 2) := dk_16 6 (dk_at dksX4_init_3 4 rfl rfl)
theorem dX4_init_77 : decode cX4_init 77 = .ok (.newarray .int, 2) := dk_188_10 (dk_at dksX4_init_3 6 rfl rfl)
theorem dX4_init_79 : decode cX4_init 79 = .ok (.putfield 38, 3) := dk_181 0 38 (dk_at dksX4_init_3 8 rfl rfl)
theorem dX4_init_82 : decode cX4_init 82 = .ok (.aload_n 0, 1) := dk_42 (dk_at dksX4_init_3 11 rfl rfl)
theorem dX4_init_83 : decode cX4_init 83 = .ok (.bipush 6, 2) := dk_16 6 (dk_at dksX4_init_3 12 rfl rfl)
theorem dX4_init_85 : decode cX4_init 85 = .ok (.newarray .int, 2) := dk_188_10 (dk_at dksX4_init_3 14 rfl rfl)
theorem dX4_init_87 : decode cX4_init 87 = .ok (.putfield 41, 3) := dk_181 0 41 (dk_at dksX4_init_3 16 rfl rfl)
theorem dX4_init_90 : decode cX4_init 90 = .ok (.aload_n 0, 1) := dk_42 (dk_at dksX4_init_3 19 rfl rfl)
theorem dX4_init_91 : decode cX4_init 91 = .ok (.bipush 6, 2) := dk_16 6 (dk_at dksX4_init_3 20 rfl rfl)
theorem dX4_init_93 : decode cX4_init 93 = .ok (.newarray .int, 2) := dk_188_10 (dk_at dksX4_init_3 22 rfl rfl)
theorem dX4_init_95 : decode cX4_init 95 = .ok (.putfield 44, 3) := dk_181 0 44 (dk_at dksX4_init_4 0 rfl rfl)
theorem dX4_init_98 : decode cX4_init 98 = .ok (.aload_n 0, 1) := dk_42 (dk_at dksX4_init_4 3 rfl rfl)
theorem dX4_init_99 : decode cX4_init 99 = .ok (.bipush 6, 2) := dk_16 6 (dk_at dksX4_init_4 4 rfl rfl)
theorem dX4_init_101 : decode cX4_init 101 = .ok (.newarray .int, 2) := dk_188_10 (dk_at dksX4_init_4 6 rfl rfl)
theorem dX4_init_103 : decode cX4_init 103 = .ok (.putfield 47, 3) := dk_181 0 47 (dk_at dksX4_init_4 8 rfl rfl)
theorem dX4_init_106 : decode cX4_init 106 = .ok (.aload_n 0, 1) := dk_42 (dk_at dksX4_init_4 11 rfl rfl)
theorem dX4_init_107 : decode cX4_init 107 = .ok (.bipush 6, 2) := dk_16 6 (dk_at dksX4_init_4 12 rfl rfl)
theorem dX4_init_109 : decode cX4_init 109 = .ok (.newarray .int, 2) := dk_188_10 (dk_at dksX4_init_4 14 rfl rfl)
theorem dX4_init_111 : decode cX4_init 111 = .ok (.putfield 50, 3) := dk_181 0 50 (dk_at dksX4_init_4 16 rfl rfl)
theorem dX4_init_114 : decode cX4_init 114 = .ok (.aload_n 0, 1) := dk_42 (dk_at dksX4_init_4 19 rfl rfl)
theorem dX4_init_115 : decode cX4_init 115 = .ok (.bipush 6, 2) := dk_16 6 (dk_at dksX4_init_4 20 rfl rfl)
theorem dX4_init_117 : decode cX4_init 117 = .ok (.newarray .int, 2) := dk_188_10 (dk_at dksX4_init_4 22 rfl rfl)
theorem dX4_init_119 : decode cX4_init 119 = .ok (.putfield 53, 3) := dk_181 0 53 (dk_at dksX4_init_5 0 rfl rfl)
theorem dX4_init_122 : decode cX4_init 122 = .ok (.aload_n 0, 1) := dk_42 (dk_at dksX4_init_5 3 rfl rfl)
theorem dX4_init_123 : decode cX4_init 123 = .ok (.bipush 6, 2) := dk_16 6 (dk_at dksX4_init_5 4 rfl rfl)
theorem dX4_init_125 : decode cX4_init 125 = .ok (.newarray .int, 2) := dk_188_10 (dk_at dksX4_init_5 6 rfl rfl)
theorem dX4_init_127 : decode cX4_init 127 = .ok (.putfield 56, 3) := dk_181 0 56 (dk_at dksX4_init_5 8 rfl rfl)
theorem dX4_init_130 : decode cX4_init 130 = .ok (.aload_n 0, 1) := dk_42 (dk_at dksX4_init_5 11 rfl rfl)
theorem dX4_init_131 : decode cX4_init 131 = .ok (.bipush 6, 2) := dk_16 6 (dk_at dksX4_init_5 12 rfl rfl)
theorem dX4_init_133 : decode cX4_init 133 = .ok (.newarray .int, 2) := dk_188_10 (dk_at dksX4_init_5 14 rfl rfl)
theorem dX4_init_135 : decode cX4_init 135 = .ok (.putfield 59, 3) := dk_181 0 59 (dk_at dksX4_init_5 16 rfl rfl)
theorem dX4_init_138 : decode cX4_init 138 = .ok (.aload_n 0, 1) := dk_42 (dk_at dksX4_init_5 19 rfl rfl)
theorem dX4_init_139 : decode cX4_init 139 = .ok (.iconst (-1), 1) := dk_2 (dk_at dksX4_init_5 20 rfl rfl)
theorem dX4_init_140 : decode cX4_init 140 = .ok (.putfield 62, 3) := dk_181 0 62 (dk_at dksX4_init_5 21 rfl rfl)
theorem dX4_init_143 : decode cX4_init 143 = .ok (.aload_n 0, 1) := dk_42 (dk_at dksX4_init_6 0 rfl rfl)
theorem dX4_init_144 : decode cX4_init 144 = .ok (.sipush 142, 3) := dk_17 0 142 (dk_at dksX4_init_6 1 rfl rfl)
theorem dX4_init_147 : decode cX4_init 147 = .ok (.newarray .int, 2) := dk_188_10 (dk_at dksX4_init_6 4 rfl rfl)
theorem dX4_init_149 : decode cX4_init 149 = .ok (.putfield 65, 3) := dk_181 0 65 (dk_at dksX4_init_6 6 rfl rfl)
theorem dX4_init_152 : decode cX4_init 152 = .ok (.aload_n 0, 1) := dk_42 (dk_at dksX4_init_6 9 rfl rfl)
theorem dX4_init_153 : decode cX4_init 153 = .ok (.sipush 142, 3) := dk_17 0 142 (dk_at dksX4_init_6 10 rfl rfl)
theorem dX4_init_156 : decode cX4_init 156 = .ok (.newarray .int, 2) := dk_188_10 (dk_at dksX4_init_6 13 rfl rfl)
theorem dX4_init_158 : decode cX4_init 158 = .ok (.putfield 68, 3) := dk_181 0 68 (dk_at dksX4_init_6 15 rfl rfl)
theorem dX4_init_161 : decode cX4_init 161 = .ok (.aload_n 0, 1) := dk_42 (dk_at dksX4_init_6 18 rfl rfl)
theorem dX4_init_162 : decode cX4_init 162 = .ok (.bipush 51, 2) := dk_16 51 (dk_at dksX4_init_6 19 rfl rfl)
theorem dX4_init_164 : decode cX4_init 164 = .ok (.newarray .int, 2) := dk_188_10 (dk_at dksX4_init_6 21 rfl rfl)
theorem dX4_init_166 : decode cX4_init 166 = .ok (.putfield 71, 3) := dk_181 0 71 (dk_at dksX4_init_7 0 rfl rfl)
theorem dX4_init_169 : decode cX4_init 169 = .ok (.aload_n 0, 1) := dk_42 (dk_at dksX4_init_7 3 rfl rfl)
theorem dX4_init_170 : decode cX4_init 170 = .ok (.bipush 51, 2) := dk_16 51 (dk_at dksX4_init_7 4 rfl rfl)
theorem dX4_init_172 : decode cX4_init 172 = .ok (.newarray .int, 2) := dk_188_10 (dk_at dksX4_init_7 6 rfl rfl)
theorem dX4_init_174 : decode cX4_init 174 = .ok (.putfield 74, 3) := dk_181 0 74 (dk_at dksX4_init_7 8 rfl rfl)
theorem dX4_init_177 : decode cX4_init 177 = .ok (.aload_n 0, 1) := dk_42 (dk_at dksX4_init_7 11 rfl rfl)
theorem dX4_init_178 : decode cX4_init 178 = .ok (.sipush 255, 3) := dk_17 0 255 (dk_at dksX4_init_7 12 rfl rfl)
theorem dX4_init_181 : decode cX4_init 181 = .ok (.newarray .int, 2) := dk_188_10 (dk_at dksX4_init_7 15 rfl rfl)
theorem dX4_init_183 : decode cX4_init 183 = .ok (.putfield 77, 3) := dk_181 0 77 (dk_at dksX4_init_7 17 rfl rfl)
theorem dX4_init_186 : decode cX4_init 186 = .ok (.aload_n 0, 1) := dk_42 (dk_at dksX4_init_7 20 rfl rfl)
theorem dX4_init_187 : decode cX4_init 187 = .ok (.bipush 8, 2) := dk_16 8 (dk_at dksX4_init_7 21 rfl rfl)
theorem dX4_init_189 : decode cX4_init 189 = .ok (.newarray .int, 2) := dk_188_10 (dk_at dksX4_init_8 0 rfl rfl)
theorem dX4_init_191 : decode cX4_init 191 = .ok (.putfield 80, 3) := dk_181 0 80 (dk_at dksX4_init_8 2 rfl rfl)
theorem dX4_init_194 : decode cX4_init 194 = .ok (.aload_n 0, 1) := dk_42 (dk_at dksX4_init_8 5 rfl rfl)
theorem dX4_init_195 : decode cX4_init 195 = .ok (.bipush 8, 2) := dk_16 8 (dk_at dksX4_init_8 6 rfl rfl)
theorem dX4_init_197 : decode cX4_init 197 = .ok (.newarray .int, 2) := dk_188_10 (dk_at dksX4_init_8 8 rfl rfl)
theorem dX4_init_199 : decode cX4_init 199 = .ok (.putfield 83, 3) := dk_181 0 83 (dk_at dksX4_init_8 10 rfl rfl)
theorem dX4_init_202 : decode cX4_init 202 = .ok (.aload_n 0, 1) := dk_42 (dk_at dksX4_init_8 13 rfl rfl)
theorem dX4_init_203 : decode cX4_init 203 = .ok (.bipush 8, 2) := dk_16 8 (dk_at dksX4_init_8 14 rfl rfl)
theorem dX4_init_205 : decode cX4_init 205 = .ok (.newarray .int, 2) := dk_188_10 (dk_at dksX4_init_8 16 rfl rfl)
theorem dX4_init_207 : decode cX4_init 207 = .ok (.putfield 86, 3) := dk_181 0 86 (dk_at dksX4_init_8 18 rfl rfl)
theorem dX4_init_210 : decode cX4_init 210 = .ok (.aload_n 0, 1) := dk_42 (dk_at dksX4_init_8 21 rfl rfl)
theorem dX4_init_211 : decode cX4_init 211 = .ok (.bipush 8, 2) := dk_16 8 (dk_at dksX4_init_8 22 rfl rfl)
theorem dX4_init_213 : decode cX4_init 213 = .ok (.newarray .int, 2) := dk_188_10 (dk_at dksX4_init_9 0 rfl rfl)
theorem dX4_init_215 : decode cX4_init 215 = .ok (.putfield 89, 3) := dk_181 0 89 (dk_at dksX4_init_9 2 rfl rfl)
theorem dX4_init_218 : decode cX4_init 218 = .ok (.aload_n 0, 1) := dk_42 (dk_at dksX4_init_9 5 rfl rfl)
theorem dX4_init_219 : decode cX4_init 219 = .ok (.bipush 8, 2) := dk_16 8 (dk_at dksX4_init_9 6 rfl rfl)
theorem dX4_init_221 : decode cX4_init 221 = .ok (.newarray .int, 2) := dk_188_10 (dk_at dksX4_init_9 8 rfl rfl)
theorem dX4_init_223 : decode cX4_init 223 = .ok (.putfield 92, 3) := dk_181 0 92 (dk_at dksX4_init_9 10 rfl rfl)
theorem dX4_init_226 : decode cX4_init 226 = .ok (.aload_n 0, 1) := dk_42 (dk_at dksX4_init_9 13 rfl rfl)
theorem dX4_init_227 : decode cX4_init 227 = .ok (.sipush 800, 3) := dk_17 3 32 (dk_at dksX4_init_9 14 rfl rfl)
theorem dX4_init_230 : decode cX4_init 230 = .ok (.newarray .long, 2) := dk_188_11 (dk_at dksX4_init_9 17 rfl rfl)
theorem dX4_init_232 : decode cX4_init 232 = .ok (.putfield 95, 3) := dk_181 0 95 (dk_at dksX4_init_9 19 rfl rfl)
theorem dX4_init_235 : decode cX4_init 235 = .ok (.aload_n 0, 1) := dk_42 (dk_at dksX4_init_9 22 rfl rfl)
theorem dX4_init_236 : decode cX4_init 236 = .ok (.bipush 100, 2) := dk_16 100 (dk_at dksX4_init_10 0 rfl rfl)
theorem dX4_init_238 : decode cX4_init 238 = .ok (.newarray .long, 2) := dk_188_11 (dk_at dksX4_init_10 2 rfl rfl)
theorem dX4_init_240 : decode cX4_init 240 = .ok (.putfield 99, 3) := dk_181 0 99 (dk_at dksX4_init_10 4 rfl rfl)
theorem dX4_init_243 : decode cX4_init 243 = .ok (.aload_n 0, 1) := dk_42 (dk_at dksX4_init_10 7 rfl rfl)
theorem dX4_init_244 : decode cX4_init 244 = .ok (.iconst 0, 1) := dk_3 (dk_at dksX4_init_10 8 rfl rfl)
theorem dX4_init_245 : decode cX4_init 245 = .ok (.putfield 102, 3) := dk_181 0 102 (dk_at dksX4_init_10 9 rfl rfl)
theorem dX4_init_248 : decode cX4_init 248 = .ok (.return_, 1) := dk_177 (dk_at dksX4_init_10 12 rfl rfl)
abbrev cX4_thrown : ByteArray := prog_21_method_2_code
def yX4_thrown : MethodName := ⟨RX4, "thrown", "()I"⟩
theorem dX4_thrown_0 : decode cX4_thrown 0 = .ok (.aload_n 0, 1) := by decide +kernel
theorem dX4_thrown_1 : decode cX4_thrown 1 = .ok (.getfield 102, 3) := by decide +kernel
theorem dX4_thrown_4 : decode cX4_thrown 4 = .ok (.ireturn, 1) := by decide +kernel
abbrev cX4_image : ByteArray := prog_21_method_28_code
def yX4_image : MethodName := ⟨RX4, "image", "()I"⟩
def dkwX4_image_0 : List UInt8 := [42, 3, 181, 0, 102, 42, 4, 181, 0, 196, 42, 42, 180, 0, 68, 4, 182, 0, 189, 42, 180, 0, 133, 172]
abbrev dktX4_image_0 : List UInt8 := dkwX4_image_0 ++ []
theorem dksX4_image_0 : cX4_image.data.toList.drop 0 = dktX4_image_0 := by decide +kernel
theorem dX4_image_0 : decode cX4_image 0 = .ok (.aload_n 0, 1) := dk_42 (dk_at dksX4_image_0 0 rfl rfl)
theorem dX4_image_1 : decode cX4_image 1 = .ok (.iconst 0, 1) := dk_3 (dk_at dksX4_image_0 1 rfl rfl)
theorem dX4_image_2 : decode cX4_image 2 = .ok (.putfield 102, 3) := dk_181 0 102 (dk_at dksX4_image_0 2 rfl rfl)
theorem dX4_image_5 : decode cX4_image 5 = .ok (.aload_n 0, 1) := dk_42 (dk_at dksX4_image_0 5 rfl rfl)
theorem dX4_image_6 : decode cX4_image 6 = .ok (.iconst 1, 1) := dk_4 (dk_at dksX4_image_0 6 rfl rfl)
theorem dX4_image_7 : decode cX4_image 7 = .ok (.putfield 196, 3) := dk_181 0 196 (dk_at dksX4_image_0 7 rfl rfl)
theorem dX4_image_10 : decode cX4_image 10 = .ok (.aload_n 0, 1) := dk_42 (dk_at dksX4_image_0 10 rfl rfl)
theorem dX4_image_11 : decode cX4_image 11 = .ok (.aload_n 0, 1) := dk_42 (dk_at dksX4_image_0 11 rfl rfl)
theorem dX4_image_12 : decode cX4_image 12 = .ok (.getfield 68, 3) := dk_180 0 68 (dk_at dksX4_image_0 12 rfl rfl)
theorem dX4_image_15 : decode cX4_image 15 = .ok (.iconst 1, 1) := dk_4 (dk_at dksX4_image_0 15 rfl rfl)
theorem dX4_image_16 : decode cX4_image 16 = .ok (.invokevirtual 189, 3) := dk_182 0 189 (dk_at dksX4_image_0 16 rfl rfl)
theorem dX4_image_19 : decode cX4_image 19 = .ok (.aload_n 0, 1) := dk_42 (dk_at dksX4_image_0 19 rfl rfl)
theorem dX4_image_20 : decode cX4_image 20 = .ok (.getfield 133, 3) := dk_180 0 133 (dk_at dksX4_image_0 20 rfl rfl)
theorem dX4_image_23 : decode cX4_image 23 = .ok (.ireturn, 1) := dk_172 (dk_at dksX4_image_0 23 rfl rfl)
abbrev cX4_carryAll : ByteArray := prog_21_method_24_code
def yX4_carryAll : MethodName := ⟨RX4, "carryAll", "([IZ)V"⟩
def dkwX4_carryAll_14 : List UInt8 := [180, 0, 59, 29, 46, 182, 0, 186, 79, 132, 3, 1, 167, 255, 103, 177]
abbrev dktX4_carryAll_14 : List UInt8 := dkwX4_carryAll_14 ++ []
def dkwX4_carryAll_13 : List UInt8 := [79, 42, 180, 0, 56, 29, 42, 42, 180, 0, 56, 29, 46, 182, 0, 186, 79, 42, 180, 0, 59, 29, 42, 42]
abbrev dktX4_carryAll_13 : List UInt8 := dkwX4_carryAll_13 ++ dktX4_carryAll_14
def dkwX4_carryAll_12 : List UInt8 := [180, 0, 50, 29, 46, 182, 0, 186, 79, 42, 180, 0, 53, 29, 42, 42, 180, 0, 53, 29, 46, 182, 0, 186]
abbrev dktX4_carryAll_12 : List UInt8 := dkwX4_carryAll_12 ++ dktX4_carryAll_13
def dkwX4_carryAll_11 : List UInt8 := [79, 42, 180, 0, 47, 29, 42, 42, 180, 0, 47, 29, 46, 182, 0, 186, 79, 42, 180, 0, 50, 29, 42, 42]
abbrev dktX4_carryAll_11 : List UInt8 := dkwX4_carryAll_11 ++ dktX4_carryAll_12
def dkwX4_carryAll_10 : List UInt8 := [180, 0, 41, 29, 46, 182, 0, 186, 79, 42, 180, 0, 44, 29, 42, 42, 180, 0, 44, 29, 46, 182, 0, 186]
abbrev dktX4_carryAll_10 : List UInt8 := dkwX4_carryAll_10 ++ dktX4_carryAll_11
def dkwX4_carryAll_9 : List UInt8 := [180, 0, 38, 29, 42, 42, 180, 0, 38, 29, 46, 182, 0, 186, 79, 42, 180, 0, 41, 29, 42, 42]
abbrev dktX4_carryAll_9 : List UInt8 := dkwX4_carryAll_9 ++ dktX4_carryAll_10
def dkwX4_carryAll_8 : List UInt8 := [62, 29, 16, 6, 162, 0, 153, 42, 180, 0, 35, 29, 42, 42, 180, 0, 35, 29, 46, 182, 0, 186, 79, 42]
abbrev dktX4_carryAll_8 : List UInt8 := dkwX4_carryAll_8 ++ dktX4_carryAll_9
def dkwX4_carryAll_7 : List UInt8 := [79, 42, 180, 0, 32, 29, 42, 42, 180, 0, 32, 29, 46, 182, 0, 186, 79, 132, 3, 1, 167, 255, 135, 3]
abbrev dktX4_carryAll_7 : List UInt8 := dkwX4_carryAll_7 ++ dktX4_carryAll_8
def dkwX4_carryAll_6 : List UInt8 := [180, 0, 26, 29, 46, 182, 0, 186, 79, 42, 180, 0, 29, 29, 42, 42, 180, 0, 29, 29, 46, 182, 0, 186]
abbrev dktX4_carryAll_6 : List UInt8 := dkwX4_carryAll_6 ++ dktX4_carryAll_7
def dkwX4_carryAll_5 : List UInt8 := [79, 42, 180, 0, 23, 29, 42, 42, 180, 0, 23, 29, 46, 182, 0, 186, 79, 42, 180, 0, 26, 29, 42, 42]
abbrev dktX4_carryAll_5 : List UInt8 := dkwX4_carryAll_5 ++ dktX4_carryAll_6
def dkwX4_carryAll_4 : List UInt8 := [180, 0, 17, 29, 46, 182, 0, 186, 79, 42, 180, 0, 20, 29, 42, 42, 180, 0, 20, 29, 46, 182, 0, 186]
abbrev dktX4_carryAll_4 : List UInt8 := dkwX4_carryAll_4 ++ dktX4_carryAll_5
def dkwX4_carryAll_3 : List UInt8 := [180, 0, 13, 29, 42, 42, 180, 0, 13, 29, 46, 182, 0, 186, 79, 42, 180, 0, 17, 29, 42, 42]
abbrev dktX4_carryAll_3 : List UInt8 := dkwX4_carryAll_3 ++ dktX4_carryAll_4
def dkwX4_carryAll_2 : List UInt8 := [181, 0, 7, 42, 42, 42, 180, 0, 133, 182, 0, 186, 181, 0, 133, 3, 62, 29, 16, 12, 162, 0, 121, 42]
abbrev dktX4_carryAll_2 : List UInt8 := dkwX4_carryAll_2 ++ dktX4_carryAll_3
def dkwX4_carryAll_1 : List UInt8 := [181, 0, 105, 42, 42, 42, 180, 0, 112, 182, 0, 186, 181, 0, 112, 42, 42, 42, 180, 0, 7, 182, 0, 186]
abbrev dktX4_carryAll_1 : List UInt8 := dkwX4_carryAll_1 ++ dktX4_carryAll_2
def dkwX4_carryAll_0 : List UInt8 := [42, 43, 181, 0, 180, 42, 28, 181, 0, 176, 42, 3, 181, 0, 183, 42, 42, 42, 180, 0, 105, 182, 0, 186]
abbrev dktX4_carryAll_0 : List UInt8 := dkwX4_carryAll_0 ++ dktX4_carryAll_1
theorem dksX4_carryAll_0 : cX4_carryAll.data.toList.drop 0 = dktX4_carryAll_0 := by decide +kernel
theorem dksX4_carryAll_1 : cX4_carryAll.data.toList.drop 24 = dktX4_carryAll_1 := dk_seg dksX4_carryAll_0 24 rfl rfl
theorem dksX4_carryAll_2 : cX4_carryAll.data.toList.drop 48 = dktX4_carryAll_2 := dk_seg dksX4_carryAll_1 24 rfl rfl
theorem dksX4_carryAll_3 : cX4_carryAll.data.toList.drop 72 = dktX4_carryAll_3 := dk_seg dksX4_carryAll_2 24 rfl rfl
theorem dksX4_carryAll_4 : cX4_carryAll.data.toList.drop 94 = dktX4_carryAll_4 := dk_seg dksX4_carryAll_3 22 rfl rfl
theorem dksX4_carryAll_5 : cX4_carryAll.data.toList.drop 118 = dktX4_carryAll_5 := dk_seg dksX4_carryAll_4 24 rfl rfl
theorem dksX4_carryAll_6 : cX4_carryAll.data.toList.drop 142 = dktX4_carryAll_6 := dk_seg dksX4_carryAll_5 24 rfl rfl
theorem dksX4_carryAll_7 : cX4_carryAll.data.toList.drop 166 = dktX4_carryAll_7 := dk_seg dksX4_carryAll_6 24 rfl rfl
theorem dksX4_carryAll_8 : cX4_carryAll.data.toList.drop 190 = dktX4_carryAll_8 := dk_seg dksX4_carryAll_7 24 rfl rfl
theorem dksX4_carryAll_9 : cX4_carryAll.data.toList.drop 214 = dktX4_carryAll_9 := dk_seg dksX4_carryAll_8 24 rfl rfl
theorem dksX4_carryAll_10 : cX4_carryAll.data.toList.drop 236 = dktX4_carryAll_10 := dk_seg dksX4_carryAll_9 22 rfl rfl
theorem dksX4_carryAll_11 : cX4_carryAll.data.toList.drop 260 = dktX4_carryAll_11 := dk_seg dksX4_carryAll_10 24 rfl rfl
theorem dksX4_carryAll_12 : cX4_carryAll.data.toList.drop 284 = dktX4_carryAll_12 := dk_seg dksX4_carryAll_11 24 rfl rfl
theorem dksX4_carryAll_13 : cX4_carryAll.data.toList.drop 308 = dktX4_carryAll_13 := dk_seg dksX4_carryAll_12 24 rfl rfl
theorem dksX4_carryAll_14 : cX4_carryAll.data.toList.drop 332 = dktX4_carryAll_14 := dk_seg dksX4_carryAll_13 24 rfl rfl
theorem dX4_carryAll_0 : decode cX4_carryAll 0 = .ok (.aload_n 0, 1) := dk_42 (dk_at dksX4_carryAll_0 0 rfl rfl)
theorem dX4_carryAll_1 : decode cX4_carryAll 1 = .ok (.aload_n 1, 1) := dk_43 (dk_at dksX4_carryAll_0 1 rfl rfl)
theorem dX4_carryAll_2 : decode cX4_carryAll 2 = .ok (.putfield 180, 3) := dk_181 0 180 (dk_at dksX4_carryAll_0 2 rfl rfl)
theorem dX4_carryAll_5 : decode cX4_carryAll 5 = .ok (.aload_n 0, 1) := dk_42 (dk_at dksX4_carryAll_0 5 rfl rfl)
theorem dX4_carryAll_6 : decode cX4_carryAll 6 = .ok (.iload_n 2, 1) := dk_28 (dk_at dksX4_carryAll_0 6 rfl rfl)
theorem dX4_carryAll_7 : decode cX4_carryAll 7 = .ok (.putfield 176, 3) := dk_181 0 176 (dk_at dksX4_carryAll_0 7 rfl rfl)
theorem dX4_carryAll_10 : decode cX4_carryAll 10 = .ok (.aload_n 0, 1) := dk_42 (dk_at dksX4_carryAll_0 10 rfl rfl)
theorem dX4_carryAll_11 : decode cX4_carryAll 11 = .ok (.iconst 0, 1) := dk_3 (dk_at dksX4_carryAll_0 11 rfl rfl)
theorem dX4_carryAll_12 : decode cX4_carryAll 12 = .ok (.putfield 183, 3) := dk_181 0 183 (dk_at dksX4_carryAll_0 12 rfl rfl)
theorem dX4_carryAll_15 : decode cX4_carryAll 15 = .ok (.aload_n 0, 1) := dk_42 (dk_at dksX4_carryAll_0 15 rfl rfl)
theorem dX4_carryAll_16 : decode cX4_carryAll 16 = .ok (.aload_n 0, 1) := dk_42 (dk_at dksX4_carryAll_0 16 rfl rfl)
theorem dX4_carryAll_17 : decode cX4_carryAll 17 = .ok (.aload_n 0, 1) := dk_42 (dk_at dksX4_carryAll_0 17 rfl rfl)
theorem dX4_carryAll_18 : decode cX4_carryAll 18 = .ok (.getfield 105, 3) := dk_180 0 105 (dk_at dksX4_carryAll_0 18 rfl rfl)
theorem dX4_carryAll_21 : decode cX4_carryAll 21 = .ok (.invokevirtual 186, 3) := dk_182 0 186 (dk_at dksX4_carryAll_0 21 rfl rfl)
theorem dX4_carryAll_24 : decode cX4_carryAll 24 = .ok (.putfield 105, 3) := dk_181 0 105 (dk_at dksX4_carryAll_1 0 rfl rfl)
theorem dX4_carryAll_27 : decode cX4_carryAll 27 = .ok (.aload_n 0, 1) := dk_42 (dk_at dksX4_carryAll_1 3 rfl rfl)
theorem dX4_carryAll_28 : decode cX4_carryAll 28 = .ok (.aload_n 0, 1) := dk_42 (dk_at dksX4_carryAll_1 4 rfl rfl)
theorem dX4_carryAll_29 : decode cX4_carryAll 29 = .ok (.aload_n 0, 1) := dk_42 (dk_at dksX4_carryAll_1 5 rfl rfl)
theorem dX4_carryAll_30 : decode cX4_carryAll 30 = .ok (.getfield 112, 3) := dk_180 0 112 (dk_at dksX4_carryAll_1 6 rfl rfl)
theorem dX4_carryAll_33 : decode cX4_carryAll 33 = .ok (.invokevirtual 186, 3) := dk_182 0 186 (dk_at dksX4_carryAll_1 9 rfl rfl)
theorem dX4_carryAll_36 : decode cX4_carryAll 36 = .ok (.putfield 112, 3) := dk_181 0 112 (dk_at dksX4_carryAll_1 12 rfl rfl)
theorem dX4_carryAll_39 : decode cX4_carryAll 39 = .ok (.aload_n 0, 1) := dk_42 (dk_at dksX4_carryAll_1 15 rfl rfl)
theorem dX4_carryAll_40 : decode cX4_carryAll 40 = .ok (.aload_n 0, 1) := dk_42 (dk_at dksX4_carryAll_1 16 rfl rfl)
theorem dX4_carryAll_41 : decode cX4_carryAll 41 = .ok (.aload_n 0, 1) := dk_42 (dk_at dksX4_carryAll_1 17 rfl rfl)
theorem dX4_carryAll_42 : decode cX4_carryAll 42 = .ok (.getfield 7, 3) := dk_180 0 7 (dk_at dksX4_carryAll_1 18 rfl rfl)
theorem dX4_carryAll_45 : decode cX4_carryAll 45 = .ok (.invokevirtual 186, 3) := dk_182 0 186 (dk_at dksX4_carryAll_1 21 rfl rfl)
theorem dX4_carryAll_48 : decode cX4_carryAll 48 = .ok (.putfield 7, 3) := dk_181 0 7 (dk_at dksX4_carryAll_2 0 rfl rfl)
theorem dX4_carryAll_51 : decode cX4_carryAll 51 = .ok (.aload_n 0, 1) := dk_42 (dk_at dksX4_carryAll_2 3 rfl rfl)
theorem dX4_carryAll_52 : decode cX4_carryAll 52 = .ok (.aload_n 0, 1) := dk_42 (dk_at dksX4_carryAll_2 4 rfl rfl)
theorem dX4_carryAll_53 : decode cX4_carryAll 53 = .ok (.aload_n 0, 1) := dk_42 (dk_at dksX4_carryAll_2 5 rfl rfl)
theorem dX4_carryAll_54 : decode cX4_carryAll 54 = .ok (.getfield 133, 3) := dk_180 0 133 (dk_at dksX4_carryAll_2 6 rfl rfl)
theorem dX4_carryAll_57 : decode cX4_carryAll 57 = .ok (.invokevirtual 186, 3) := dk_182 0 186 (dk_at dksX4_carryAll_2 9 rfl rfl)
theorem dX4_carryAll_60 : decode cX4_carryAll 60 = .ok (.putfield 133, 3) := dk_181 0 133 (dk_at dksX4_carryAll_2 12 rfl rfl)
theorem dX4_carryAll_63 : decode cX4_carryAll 63 = .ok (.iconst 0, 1) := dk_3 (dk_at dksX4_carryAll_2 15 rfl rfl)
theorem dX4_carryAll_64 : decode cX4_carryAll 64 = .ok (.istore_n 3, 1) := dk_62 (dk_at dksX4_carryAll_2 16 rfl rfl)
theorem dX4_carryAll_65 : decode cX4_carryAll 65 = .ok (.iload_n 3, 1) := dk_29 (dk_at dksX4_carryAll_2 17 rfl rfl)
theorem dX4_carryAll_66 : decode cX4_carryAll 66 = .ok (.bipush 12, 2) := dk_16 12 (dk_at dksX4_carryAll_2 18 rfl rfl)
theorem dX4_carryAll_68 : decode cX4_carryAll 68 = .ok (.if_icmp .ge 121, 3) := dk_162 0 121 (dk_at dksX4_carryAll_2 20 rfl rfl)
theorem dX4_carryAll_71 : decode cX4_carryAll 71 = .ok (.aload_n 0, 1) := dk_42 (dk_at dksX4_carryAll_2 23 rfl rfl)
theorem dX4_carryAll_72 : decode cX4_carryAll 72 = .ok (.getfield 13, 3) := dk_180 0 13 (dk_at dksX4_carryAll_3 0 rfl rfl)
theorem dX4_carryAll_75 : decode cX4_carryAll 75 = .ok (.iload_n 3, 1) := dk_29 (dk_at dksX4_carryAll_3 3 rfl rfl)
theorem dX4_carryAll_76 : decode cX4_carryAll 76 = .ok (.aload_n 0, 1) := dk_42 (dk_at dksX4_carryAll_3 4 rfl rfl)
theorem dX4_carryAll_77 : decode cX4_carryAll 77 = .ok (.aload_n 0, 1) := dk_42 (dk_at dksX4_carryAll_3 5 rfl rfl)
theorem dX4_carryAll_78 : decode cX4_carryAll 78 = .ok (.getfield 13, 3) := dk_180 0 13 (dk_at dksX4_carryAll_3 6 rfl rfl)
theorem dX4_carryAll_81 : decode cX4_carryAll 81 = .ok (.iload_n 3, 1) := dk_29 (dk_at dksX4_carryAll_3 9 rfl rfl)
theorem dX4_carryAll_82 : decode cX4_carryAll 82 = .ok (.iaload, 1) := dk_46 (dk_at dksX4_carryAll_3 10 rfl rfl)
theorem dX4_carryAll_83 : decode cX4_carryAll 83 = .ok (.invokevirtual 186, 3) := dk_182 0 186 (dk_at dksX4_carryAll_3 11 rfl rfl)
theorem dX4_carryAll_86 : decode cX4_carryAll 86 = .ok (.iastore, 1) := dk_79 (dk_at dksX4_carryAll_3 14 rfl rfl)
theorem dX4_carryAll_87 : decode cX4_carryAll 87 = .ok (.aload_n 0, 1) := dk_42 (dk_at dksX4_carryAll_3 15 rfl rfl)
theorem dX4_carryAll_88 : decode cX4_carryAll 88 = .ok (.getfield 17, 3) := dk_180 0 17 (dk_at dksX4_carryAll_3 16 rfl rfl)
theorem dX4_carryAll_91 : decode cX4_carryAll 91 = .ok (.iload_n 3, 1) := dk_29 (dk_at dksX4_carryAll_3 19 rfl rfl)
theorem dX4_carryAll_92 : decode cX4_carryAll 92 = .ok (.aload_n 0, 1) := dk_42 (dk_at dksX4_carryAll_3 20 rfl rfl)
theorem dX4_carryAll_93 : decode cX4_carryAll 93 = .ok (.aload_n 0, 1) := dk_42 (dk_at dksX4_carryAll_3 21 rfl rfl)
theorem dX4_carryAll_94 : decode cX4_carryAll 94 = .ok (.getfield 17, 3) := dk_180 0 17 (dk_at dksX4_carryAll_4 0 rfl rfl)
theorem dX4_carryAll_97 : decode cX4_carryAll 97 = .ok (.iload_n 3, 1) := dk_29 (dk_at dksX4_carryAll_4 3 rfl rfl)
theorem dX4_carryAll_98 : decode cX4_carryAll 98 = .ok (.iaload, 1) := dk_46 (dk_at dksX4_carryAll_4 4 rfl rfl)
theorem dX4_carryAll_99 : decode cX4_carryAll 99 = .ok (.invokevirtual 186, 3) := dk_182 0 186 (dk_at dksX4_carryAll_4 5 rfl rfl)
theorem dX4_carryAll_102 : decode cX4_carryAll 102 = .ok (.iastore, 1) := dk_79 (dk_at dksX4_carryAll_4 8 rfl rfl)
theorem dX4_carryAll_103 : decode cX4_carryAll 103 = .ok (.aload_n 0, 1) := dk_42 (dk_at dksX4_carryAll_4 9 rfl rfl)
theorem dX4_carryAll_104 : decode cX4_carryAll 104 = .ok (.getfield 20, 3) := dk_180 0 20 (dk_at dksX4_carryAll_4 10 rfl rfl)
theorem dX4_carryAll_107 : decode cX4_carryAll 107 = .ok (.iload_n 3, 1) := dk_29 (dk_at dksX4_carryAll_4 13 rfl rfl)
theorem dX4_carryAll_108 : decode cX4_carryAll 108 = .ok (.aload_n 0, 1) := dk_42 (dk_at dksX4_carryAll_4 14 rfl rfl)
theorem dX4_carryAll_109 : decode cX4_carryAll 109 = .ok (.aload_n 0, 1) := dk_42 (dk_at dksX4_carryAll_4 15 rfl rfl)
theorem dX4_carryAll_110 : decode cX4_carryAll 110 = .ok (.getfield 20, 3) := dk_180 0 20 (dk_at dksX4_carryAll_4 16 rfl rfl)
theorem dX4_carryAll_113 : decode cX4_carryAll 113 = .ok (.iload_n 3, 1) := dk_29 (dk_at dksX4_carryAll_4 19 rfl rfl)
theorem dX4_carryAll_114 : decode cX4_carryAll 114 = .ok (.iaload, 1) := dk_46 (dk_at dksX4_carryAll_4 20 rfl rfl)
theorem dX4_carryAll_115 : decode cX4_carryAll 115 = .ok (.invokevirtual 186, 3) := dk_182 0 186 (dk_at dksX4_carryAll_4 21 rfl rfl)
theorem dX4_carryAll_118 : decode cX4_carryAll 118 = .ok (.iastore, 1) := dk_79 (dk_at dksX4_carryAll_5 0 rfl rfl)
theorem dX4_carryAll_119 : decode cX4_carryAll 119 = .ok (.aload_n 0, 1) := dk_42 (dk_at dksX4_carryAll_5 1 rfl rfl)
theorem dX4_carryAll_120 : decode cX4_carryAll 120 = .ok (.getfield 23, 3) := dk_180 0 23 (dk_at dksX4_carryAll_5 2 rfl rfl)
theorem dX4_carryAll_123 : decode cX4_carryAll 123 = .ok (.iload_n 3, 1) := dk_29 (dk_at dksX4_carryAll_5 5 rfl rfl)
theorem dX4_carryAll_124 : decode cX4_carryAll 124 = .ok (.aload_n 0, 1) := dk_42 (dk_at dksX4_carryAll_5 6 rfl rfl)
theorem dX4_carryAll_125 : decode cX4_carryAll 125 = .ok (.aload_n 0, 1) := dk_42 (dk_at dksX4_carryAll_5 7 rfl rfl)
theorem dX4_carryAll_126 : decode cX4_carryAll 126 = .ok (.getfield 23, 3) := dk_180 0 23 (dk_at dksX4_carryAll_5 8 rfl rfl)
theorem dX4_carryAll_129 : decode cX4_carryAll 129 = .ok (.iload_n 3, 1) := dk_29 (dk_at dksX4_carryAll_5 11 rfl rfl)
theorem dX4_carryAll_130 : decode cX4_carryAll 130 = .ok (.iaload, 1) := dk_46 (dk_at dksX4_carryAll_5 12 rfl rfl)
theorem dX4_carryAll_131 : decode cX4_carryAll 131 = .ok (.invokevirtual 186, 3) := dk_182 0 186 (dk_at dksX4_carryAll_5 13 rfl rfl)
theorem dX4_carryAll_134 : decode cX4_carryAll 134 = .ok (.iastore, 1) := dk_79 (dk_at dksX4_carryAll_5 16 rfl rfl)
theorem dX4_carryAll_135 : decode cX4_carryAll 135 = .ok (.aload_n 0, 1) := dk_42 (dk_at dksX4_carryAll_5 17 rfl rfl)
theorem dX4_carryAll_136 : decode cX4_carryAll 136 = .ok (.getfield 26, 3) := dk_180 0 26 (dk_at dksX4_carryAll_5 18 rfl rfl)
theorem dX4_carryAll_139 : decode cX4_carryAll 139 = .ok (.iload_n 3, 1) := dk_29 (dk_at dksX4_carryAll_5 21 rfl rfl)
theorem dX4_carryAll_140 : decode cX4_carryAll 140 = .ok (.aload_n 0, 1) := dk_42 (dk_at dksX4_carryAll_5 22 rfl rfl)
theorem dX4_carryAll_141 : decode cX4_carryAll 141 = .ok (.aload_n 0, 1) := dk_42 (dk_at dksX4_carryAll_5 23 rfl rfl)
theorem dX4_carryAll_142 : decode cX4_carryAll 142 = .ok (.getfield 26, 3) := dk_180 0 26 (dk_at dksX4_carryAll_6 0 rfl rfl)
theorem dX4_carryAll_145 : decode cX4_carryAll 145 = .ok (.iload_n 3, 1) := dk_29 (dk_at dksX4_carryAll_6 3 rfl rfl)
theorem dX4_carryAll_146 : decode cX4_carryAll 146 = .ok (.iaload, 1) := dk_46 (dk_at dksX4_carryAll_6 4 rfl rfl)
theorem dX4_carryAll_147 : decode cX4_carryAll 147 = .ok (.invokevirtual 186, 3) := dk_182 0 186 (dk_at dksX4_carryAll_6 5 rfl rfl)
theorem dX4_carryAll_150 : decode cX4_carryAll 150 = .ok (.iastore, 1) := dk_79 (dk_at dksX4_carryAll_6 8 rfl rfl)
theorem dX4_carryAll_151 : decode cX4_carryAll 151 = .ok (.aload_n 0, 1) := dk_42 (dk_at dksX4_carryAll_6 9 rfl rfl)
theorem dX4_carryAll_152 : decode cX4_carryAll 152 = .ok (.getfield 29, 3) := dk_180 0 29 (dk_at dksX4_carryAll_6 10 rfl rfl)
theorem dX4_carryAll_155 : decode cX4_carryAll 155 = .ok (.iload_n 3, 1) := dk_29 (dk_at dksX4_carryAll_6 13 rfl rfl)
theorem dX4_carryAll_156 : decode cX4_carryAll 156 = .ok (.aload_n 0, 1) := dk_42 (dk_at dksX4_carryAll_6 14 rfl rfl)
theorem dX4_carryAll_157 : decode cX4_carryAll 157 = .ok (.aload_n 0, 1) := dk_42 (dk_at dksX4_carryAll_6 15 rfl rfl)
theorem dX4_carryAll_158 : decode cX4_carryAll 158 = .ok (.getfield 29, 3) := dk_180 0 29 (dk_at dksX4_carryAll_6 16 rfl rfl)
theorem dX4_carryAll_161 : decode cX4_carryAll 161 = .ok (.iload_n 3, 1) := dk_29 (dk_at dksX4_carryAll_6 19 rfl rfl)
theorem dX4_carryAll_162 : decode cX4_carryAll 162 = .ok (.iaload, 1) := dk_46 (dk_at dksX4_carryAll_6 20 rfl rfl)
theorem dX4_carryAll_163 : decode cX4_carryAll 163 = .ok (.invokevirtual 186, 3) := dk_182 0 186 (dk_at dksX4_carryAll_6 21 rfl rfl)
theorem dX4_carryAll_166 : decode cX4_carryAll 166 = .ok (.iastore, 1) := dk_79 (dk_at dksX4_carryAll_7 0 rfl rfl)
theorem dX4_carryAll_167 : decode cX4_carryAll 167 = .ok (.aload_n 0, 1) := dk_42 (dk_at dksX4_carryAll_7 1 rfl rfl)
theorem dX4_carryAll_168 : decode cX4_carryAll 168 = .ok (.getfield 32, 3) := dk_180 0 32 (dk_at dksX4_carryAll_7 2 rfl rfl)
theorem dX4_carryAll_171 : decode cX4_carryAll 171 = .ok (.iload_n 3, 1) := dk_29 (dk_at dksX4_carryAll_7 5 rfl rfl)
theorem dX4_carryAll_172 : decode cX4_carryAll 172 = .ok (.aload_n 0, 1) := dk_42 (dk_at dksX4_carryAll_7 6 rfl rfl)
theorem dX4_carryAll_173 : decode cX4_carryAll 173 = .ok (.aload_n 0, 1) := dk_42 (dk_at dksX4_carryAll_7 7 rfl rfl)
theorem dX4_carryAll_174 : decode cX4_carryAll 174 = .ok (.getfield 32, 3) := dk_180 0 32 (dk_at dksX4_carryAll_7 8 rfl rfl)
theorem dX4_carryAll_177 : decode cX4_carryAll 177 = .ok (.iload_n 3, 1) := dk_29 (dk_at dksX4_carryAll_7 11 rfl rfl)
theorem dX4_carryAll_178 : decode cX4_carryAll 178 = .ok (.iaload, 1) := dk_46 (dk_at dksX4_carryAll_7 12 rfl rfl)
theorem dX4_carryAll_179 : decode cX4_carryAll 179 = .ok (.invokevirtual 186, 3) := dk_182 0 186 (dk_at dksX4_carryAll_7 13 rfl rfl)
theorem dX4_carryAll_182 : decode cX4_carryAll 182 = .ok (.iastore, 1) := dk_79 (dk_at dksX4_carryAll_7 16 rfl rfl)
theorem dX4_carryAll_183 : decode cX4_carryAll 183 = .ok (.iinc 3 1, 3) := dk_132 3 1 (dk_at dksX4_carryAll_7 17 rfl rfl)
theorem dX4_carryAll_186 : decode cX4_carryAll 186 = .ok (.goto (-121), 3) := dk_167 255 135 (dk_at dksX4_carryAll_7 20 rfl rfl)
theorem dX4_carryAll_189 : decode cX4_carryAll 189 = .ok (.iconst 0, 1) := dk_3 (dk_at dksX4_carryAll_7 23 rfl rfl)
theorem dX4_carryAll_190 : decode cX4_carryAll 190 = .ok (.istore_n 3, 1) := dk_62 (dk_at dksX4_carryAll_8 0 rfl rfl)
theorem dX4_carryAll_191 : decode cX4_carryAll 191 = .ok (.iload_n 3, 1) := dk_29 (dk_at dksX4_carryAll_8 1 rfl rfl)
theorem dX4_carryAll_192 : decode cX4_carryAll 192 = .ok (.bipush 6, 2) := dk_16 6 (dk_at dksX4_carryAll_8 2 rfl rfl)
theorem dX4_carryAll_194 : decode cX4_carryAll 194 = .ok (.if_icmp .ge 153, 3) := dk_162 0 153 (dk_at dksX4_carryAll_8 4 rfl rfl)
theorem dX4_carryAll_197 : decode cX4_carryAll 197 = .ok (.aload_n 0, 1) := dk_42 (dk_at dksX4_carryAll_8 7 rfl rfl)
theorem dX4_carryAll_198 : decode cX4_carryAll 198 = .ok (.getfield 35, 3) := dk_180 0 35 (dk_at dksX4_carryAll_8 8 rfl rfl)
theorem dX4_carryAll_201 : decode cX4_carryAll 201 = .ok (.iload_n 3, 1) := dk_29 (dk_at dksX4_carryAll_8 11 rfl rfl)
theorem dX4_carryAll_202 : decode cX4_carryAll 202 = .ok (.aload_n 0, 1) := dk_42 (dk_at dksX4_carryAll_8 12 rfl rfl)
theorem dX4_carryAll_203 : decode cX4_carryAll 203 = .ok (.aload_n 0, 1) := dk_42 (dk_at dksX4_carryAll_8 13 rfl rfl)
theorem dX4_carryAll_204 : decode cX4_carryAll 204 = .ok (.getfield 35, 3) := dk_180 0 35 (dk_at dksX4_carryAll_8 14 rfl rfl)
theorem dX4_carryAll_207 : decode cX4_carryAll 207 = .ok (.iload_n 3, 1) := dk_29 (dk_at dksX4_carryAll_8 17 rfl rfl)
theorem dX4_carryAll_208 : decode cX4_carryAll 208 = .ok (.iaload, 1) := dk_46 (dk_at dksX4_carryAll_8 18 rfl rfl)
theorem dX4_carryAll_209 : decode cX4_carryAll 209 = .ok (.invokevirtual 186, 3) := dk_182 0 186 (dk_at dksX4_carryAll_8 19 rfl rfl)
theorem dX4_carryAll_212 : decode cX4_carryAll 212 = .ok (.iastore, 1) := dk_79 (dk_at dksX4_carryAll_8 22 rfl rfl)
theorem dX4_carryAll_213 : decode cX4_carryAll 213 = .ok (.aload_n 0, 1) := dk_42 (dk_at dksX4_carryAll_8 23 rfl rfl)
theorem dX4_carryAll_214 : decode cX4_carryAll 214 = .ok (.getfield 38, 3) := dk_180 0 38 (dk_at dksX4_carryAll_9 0 rfl rfl)
theorem dX4_carryAll_217 : decode cX4_carryAll 217 = .ok (.iload_n 3, 1) := dk_29 (dk_at dksX4_carryAll_9 3 rfl rfl)
theorem dX4_carryAll_218 : decode cX4_carryAll 218 = .ok (.aload_n 0, 1) := dk_42 (dk_at dksX4_carryAll_9 4 rfl rfl)
theorem dX4_carryAll_219 : decode cX4_carryAll 219 = .ok (.aload_n 0, 1) := dk_42 (dk_at dksX4_carryAll_9 5 rfl rfl)
theorem dX4_carryAll_220 : decode cX4_carryAll 220 = .ok (.getfield 38, 3) := dk_180 0 38 (dk_at dksX4_carryAll_9 6 rfl rfl)
theorem dX4_carryAll_223 : decode cX4_carryAll 223 = .ok (.iload_n 3, 1) := dk_29 (dk_at dksX4_carryAll_9 9 rfl rfl)
theorem dX4_carryAll_224 : decode cX4_carryAll 224 = .ok (.iaload, 1) := dk_46 (dk_at dksX4_carryAll_9 10 rfl rfl)
theorem dX4_carryAll_225 : decode cX4_carryAll 225 = .ok (.invokevirtual 186, 3) := dk_182 0 186 (dk_at dksX4_carryAll_9 11 rfl rfl)
theorem dX4_carryAll_228 : decode cX4_carryAll 228 = .ok (.iastore, 1) := dk_79 (dk_at dksX4_carryAll_9 14 rfl rfl)
theorem dX4_carryAll_229 : decode cX4_carryAll 229 = .ok (.aload_n 0, 1) := dk_42 (dk_at dksX4_carryAll_9 15 rfl rfl)
theorem dX4_carryAll_230 : decode cX4_carryAll 230 = .ok (.getfield 41, 3) := dk_180 0 41 (dk_at dksX4_carryAll_9 16 rfl rfl)
theorem dX4_carryAll_233 : decode cX4_carryAll 233 = .ok (.iload_n 3, 1) := dk_29 (dk_at dksX4_carryAll_9 19 rfl rfl)
theorem dX4_carryAll_234 : decode cX4_carryAll 234 = .ok (.aload_n 0, 1) := dk_42 (dk_at dksX4_carryAll_9 20 rfl rfl)
theorem dX4_carryAll_235 : decode cX4_carryAll 235 = .ok (.aload_n 0, 1) := dk_42 (dk_at dksX4_carryAll_9 21 rfl rfl)
theorem dX4_carryAll_236 : decode cX4_carryAll 236 = .ok (.getfield 41, 3) := dk_180 0 41 (dk_at dksX4_carryAll_10 0 rfl rfl)
theorem dX4_carryAll_239 : decode cX4_carryAll 239 = .ok (.iload_n 3, 1) := dk_29 (dk_at dksX4_carryAll_10 3 rfl rfl)
theorem dX4_carryAll_240 : decode cX4_carryAll 240 = .ok (.iaload, 1) := dk_46 (dk_at dksX4_carryAll_10 4 rfl rfl)
theorem dX4_carryAll_241 : decode cX4_carryAll 241 = .ok (.invokevirtual 186, 3) := dk_182 0 186 (dk_at dksX4_carryAll_10 5 rfl rfl)
theorem dX4_carryAll_244 : decode cX4_carryAll 244 = .ok (.iastore, 1) := dk_79 (dk_at dksX4_carryAll_10 8 rfl rfl)
theorem dX4_carryAll_245 : decode cX4_carryAll 245 = .ok (.aload_n 0, 1) := dk_42 (dk_at dksX4_carryAll_10 9 rfl rfl)
theorem dX4_carryAll_246 : decode cX4_carryAll 246 = .ok (.getfield 44, 3) := dk_180 0 44 (dk_at dksX4_carryAll_10 10 rfl rfl)
theorem dX4_carryAll_249 : decode cX4_carryAll 249 = .ok (.iload_n 3, 1) := dk_29 (dk_at dksX4_carryAll_10 13 rfl rfl)
theorem dX4_carryAll_250 : decode cX4_carryAll 250 = .ok (.aload_n 0, 1) := dk_42 (dk_at dksX4_carryAll_10 14 rfl rfl)
theorem dX4_carryAll_251 : decode cX4_carryAll 251 = .ok (.aload_n 0, 1) := dk_42 (dk_at dksX4_carryAll_10 15 rfl rfl)
theorem dX4_carryAll_252 : decode cX4_carryAll 252 = .ok (.getfield 44, 3) := dk_180 0 44 (dk_at dksX4_carryAll_10 16 rfl rfl)
theorem dX4_carryAll_255 : decode cX4_carryAll 255 = .ok (.iload_n 3, 1) := dk_29 (dk_at dksX4_carryAll_10 19 rfl rfl)
theorem dX4_carryAll_256 : decode cX4_carryAll 256 = .ok (.iaload, 1) := dk_46 (dk_at dksX4_carryAll_10 20 rfl rfl)
theorem dX4_carryAll_257 : decode cX4_carryAll 257 = .ok (.invokevirtual 186, 3) := dk_182 0 186 (dk_at dksX4_carryAll_10 21 rfl rfl)
theorem dX4_carryAll_260 : decode cX4_carryAll 260 = .ok (.iastore, 1) := dk_79 (dk_at dksX4_carryAll_11 0 rfl rfl)
theorem dX4_carryAll_261 : decode cX4_carryAll 261 = .ok (.aload_n 0, 1) := dk_42 (dk_at dksX4_carryAll_11 1 rfl rfl)
theorem dX4_carryAll_262 : decode cX4_carryAll 262 = .ok (.getfield 47, 3) := dk_180 0 47 (dk_at dksX4_carryAll_11 2 rfl rfl)
theorem dX4_carryAll_265 : decode cX4_carryAll 265 = .ok (.iload_n 3, 1) := dk_29 (dk_at dksX4_carryAll_11 5 rfl rfl)
theorem dX4_carryAll_266 : decode cX4_carryAll 266 = .ok (.aload_n 0, 1) := dk_42 (dk_at dksX4_carryAll_11 6 rfl rfl)
theorem dX4_carryAll_267 : decode cX4_carryAll 267 = .ok (.aload_n 0, 1) := dk_42 (dk_at dksX4_carryAll_11 7 rfl rfl)
theorem dX4_carryAll_268 : decode cX4_carryAll 268 = .ok (.getfield 47, 3) := dk_180 0 47 (dk_at dksX4_carryAll_11 8 rfl rfl)
theorem dX4_carryAll_271 : decode cX4_carryAll 271 = .ok (.iload_n 3, 1) := dk_29 (dk_at dksX4_carryAll_11 11 rfl rfl)
theorem dX4_carryAll_272 : decode cX4_carryAll 272 = .ok (.iaload, 1) := dk_46 (dk_at dksX4_carryAll_11 12 rfl rfl)
theorem dX4_carryAll_273 : decode cX4_carryAll 273 = .ok (.invokevirtual 186, 3) := dk_182 0 186 (dk_at dksX4_carryAll_11 13 rfl rfl)
theorem dX4_carryAll_276 : decode cX4_carryAll 276 = .ok (.iastore, 1) := dk_79 (dk_at dksX4_carryAll_11 16 rfl rfl)
theorem dX4_carryAll_277 : decode cX4_carryAll 277 = .ok (.aload_n 0, 1) := dk_42 (dk_at dksX4_carryAll_11 17 rfl rfl)
theorem dX4_carryAll_278 : decode cX4_carryAll 278 = .ok (.getfield 50, 3) := dk_180 0 50 (dk_at dksX4_carryAll_11 18 rfl rfl)
theorem dX4_carryAll_281 : decode cX4_carryAll 281 = .ok (.iload_n 3, 1) := dk_29 (dk_at dksX4_carryAll_11 21 rfl rfl)
theorem dX4_carryAll_282 : decode cX4_carryAll 282 = .ok (.aload_n 0, 1) := dk_42 (dk_at dksX4_carryAll_11 22 rfl rfl)
theorem dX4_carryAll_283 : decode cX4_carryAll 283 = .ok (.aload_n 0, 1) := dk_42 (dk_at dksX4_carryAll_11 23 rfl rfl)
theorem dX4_carryAll_284 : decode cX4_carryAll 284 = .ok (.getfield 50, 3) := dk_180 0 50 (dk_at dksX4_carryAll_12 0 rfl rfl)
theorem dX4_carryAll_287 : decode cX4_carryAll 287 = .ok (.iload_n 3, 1) := dk_29 (dk_at dksX4_carryAll_12 3 rfl rfl)
theorem dX4_carryAll_288 : decode cX4_carryAll 288 = .ok (.iaload, 1) := dk_46 (dk_at dksX4_carryAll_12 4 rfl rfl)
theorem dX4_carryAll_289 : decode cX4_carryAll 289 = .ok (.invokevirtual 186, 3) := dk_182 0 186 (dk_at dksX4_carryAll_12 5 rfl rfl)
theorem dX4_carryAll_292 : decode cX4_carryAll 292 = .ok (.iastore, 1) := dk_79 (dk_at dksX4_carryAll_12 8 rfl rfl)
theorem dX4_carryAll_293 : decode cX4_carryAll 293 = .ok (.aload_n 0, 1) := dk_42 (dk_at dksX4_carryAll_12 9 rfl rfl)
theorem dX4_carryAll_294 : decode cX4_carryAll 294 = .ok (.getfield 53, 3) := dk_180 0 53 (dk_at dksX4_carryAll_12 10 rfl rfl)
theorem dX4_carryAll_297 : decode cX4_carryAll 297 = .ok (.iload_n 3, 1) := dk_29 (dk_at dksX4_carryAll_12 13 rfl rfl)
theorem dX4_carryAll_298 : decode cX4_carryAll 298 = .ok (.aload_n 0, 1) := dk_42 (dk_at dksX4_carryAll_12 14 rfl rfl)
theorem dX4_carryAll_299 : decode cX4_carryAll 299 = .ok (.aload_n 0, 1) := dk_42 (dk_at dksX4_carryAll_12 15 rfl rfl)
theorem dX4_carryAll_300 : decode cX4_carryAll 300 = .ok (.getfield 53, 3) := dk_180 0 53 (dk_at dksX4_carryAll_12 16 rfl rfl)
theorem dX4_carryAll_303 : decode cX4_carryAll 303 = .ok (.iload_n 3, 1) := dk_29 (dk_at dksX4_carryAll_12 19 rfl rfl)
theorem dX4_carryAll_304 : decode cX4_carryAll 304 = .ok (.iaload, 1) := dk_46 (dk_at dksX4_carryAll_12 20 rfl rfl)
theorem dX4_carryAll_305 : decode cX4_carryAll 305 = .ok (.invokevirtual 186, 3) := dk_182 0 186 (dk_at dksX4_carryAll_12 21 rfl rfl)
theorem dX4_carryAll_308 : decode cX4_carryAll 308 = .ok (.iastore, 1) := dk_79 (dk_at dksX4_carryAll_13 0 rfl rfl)
theorem dX4_carryAll_309 : decode cX4_carryAll 309 = .ok (.aload_n 0, 1) := dk_42 (dk_at dksX4_carryAll_13 1 rfl rfl)
theorem dX4_carryAll_310 : decode cX4_carryAll 310 = .ok (.getfield 56, 3) := dk_180 0 56 (dk_at dksX4_carryAll_13 2 rfl rfl)
theorem dX4_carryAll_313 : decode cX4_carryAll 313 = .ok (.iload_n 3, 1) := dk_29 (dk_at dksX4_carryAll_13 5 rfl rfl)
theorem dX4_carryAll_314 : decode cX4_carryAll 314 = .ok (.aload_n 0, 1) := dk_42 (dk_at dksX4_carryAll_13 6 rfl rfl)
theorem dX4_carryAll_315 : decode cX4_carryAll 315 = .ok (.aload_n 0, 1) := dk_42 (dk_at dksX4_carryAll_13 7 rfl rfl)
theorem dX4_carryAll_316 : decode cX4_carryAll 316 = .ok (.getfield 56, 3) := dk_180 0 56 (dk_at dksX4_carryAll_13 8 rfl rfl)
theorem dX4_carryAll_319 : decode cX4_carryAll 319 = .ok (.iload_n 3, 1) := dk_29 (dk_at dksX4_carryAll_13 11 rfl rfl)
theorem dX4_carryAll_320 : decode cX4_carryAll 320 = .ok (.iaload, 1) := dk_46 (dk_at dksX4_carryAll_13 12 rfl rfl)
theorem dX4_carryAll_321 : decode cX4_carryAll 321 = .ok (.invokevirtual 186, 3) := dk_182 0 186 (dk_at dksX4_carryAll_13 13 rfl rfl)
theorem dX4_carryAll_324 : decode cX4_carryAll 324 = .ok (.iastore, 1) := dk_79 (dk_at dksX4_carryAll_13 16 rfl rfl)
theorem dX4_carryAll_325 : decode cX4_carryAll 325 = .ok (.aload_n 0, 1) := dk_42 (dk_at dksX4_carryAll_13 17 rfl rfl)
theorem dX4_carryAll_326 : decode cX4_carryAll 326 = .ok (.getfield 59, 3) := dk_180 0 59 (dk_at dksX4_carryAll_13 18 rfl rfl)
theorem dX4_carryAll_329 : decode cX4_carryAll 329 = .ok (.iload_n 3, 1) := dk_29 (dk_at dksX4_carryAll_13 21 rfl rfl)
theorem dX4_carryAll_330 : decode cX4_carryAll 330 = .ok (.aload_n 0, 1) := dk_42 (dk_at dksX4_carryAll_13 22 rfl rfl)
theorem dX4_carryAll_331 : decode cX4_carryAll 331 = .ok (.aload_n 0, 1) := dk_42 (dk_at dksX4_carryAll_13 23 rfl rfl)
theorem dX4_carryAll_332 : decode cX4_carryAll 332 = .ok (.getfield 59, 3) := dk_180 0 59 (dk_at dksX4_carryAll_14 0 rfl rfl)
theorem dX4_carryAll_335 : decode cX4_carryAll 335 = .ok (.iload_n 3, 1) := dk_29 (dk_at dksX4_carryAll_14 3 rfl rfl)
theorem dX4_carryAll_336 : decode cX4_carryAll 336 = .ok (.iaload, 1) := dk_46 (dk_at dksX4_carryAll_14 4 rfl rfl)
theorem dX4_carryAll_337 : decode cX4_carryAll 337 = .ok (.invokevirtual 186, 3) := dk_182 0 186 (dk_at dksX4_carryAll_14 5 rfl rfl)
theorem dX4_carryAll_340 : decode cX4_carryAll 340 = .ok (.iastore, 1) := dk_79 (dk_at dksX4_carryAll_14 8 rfl rfl)
theorem dX4_carryAll_341 : decode cX4_carryAll 341 = .ok (.iinc 3 1, 3) := dk_132 3 1 (dk_at dksX4_carryAll_14 9 rfl rfl)
theorem dX4_carryAll_344 : decode cX4_carryAll 344 = .ok (.goto (-153), 3) := dk_167 255 103 (dk_at dksX4_carryAll_14 12 rfl rfl)
theorem dX4_carryAll_347 : decode cX4_carryAll 347 = .ok (.return_, 1) := dk_177 (dk_at dksX4_carryAll_14 15 rfl rfl)
abbrev cX4_carry : ByteArray := prog_21_method_23_code
def yX4_carry : MethodName := ⟨RX4, "carry", "(I)I"⟩
def dkwX4_carry_1 : List UInt8 := [181, 0, 183, 42, 180, 0, 180, 42, 180, 0, 183, 4, 100, 46, 172]
abbrev dktX4_carry_1 : List UInt8 := dkwX4_carry_1 ++ []
def dkwX4_carry_0 : List UInt8 := [42, 180, 0, 176, 153, 0, 13, 42, 180, 0, 180, 42, 180, 0, 183, 27, 79, 42, 89, 180, 0, 183, 4, 96]
abbrev dktX4_carry_0 : List UInt8 := dkwX4_carry_0 ++ dktX4_carry_1
theorem dksX4_carry_0 : cX4_carry.data.toList.drop 0 = dktX4_carry_0 := by decide +kernel
theorem dksX4_carry_1 : cX4_carry.data.toList.drop 24 = dktX4_carry_1 := dk_seg dksX4_carry_0 24 rfl rfl
theorem dX4_carry_0 : decode cX4_carry 0 = .ok (.aload_n 0, 1) := dk_42 (dk_at dksX4_carry_0 0 rfl rfl)
theorem dX4_carry_1 : decode cX4_carry 1 = .ok (.getfield 176, 3) := dk_180 0 176 (dk_at dksX4_carry_0 1 rfl rfl)
theorem dX4_carry_4 : decode cX4_carry 4 = .ok (.ifCond .eq 13, 3) := dk_153 0 13 (dk_at dksX4_carry_0 4 rfl rfl)
theorem dX4_carry_7 : decode cX4_carry 7 = .ok (.aload_n 0, 1) := dk_42 (dk_at dksX4_carry_0 7 rfl rfl)
theorem dX4_carry_8 : decode cX4_carry 8 = .ok (.getfield 180, 3) := dk_180 0 180 (dk_at dksX4_carry_0 8 rfl rfl)
theorem dX4_carry_11 : decode cX4_carry 11 = .ok (.aload_n 0, 1) := dk_42 (dk_at dksX4_carry_0 11 rfl rfl)
theorem dX4_carry_12 : decode cX4_carry 12 = .ok (.getfield 183, 3) := dk_180 0 183 (dk_at dksX4_carry_0 12 rfl rfl)
theorem dX4_carry_15 : decode cX4_carry 15 = .ok (.iload_n 1, 1) := dk_27 (dk_at dksX4_carry_0 15 rfl rfl)
theorem dX4_carry_16 : decode cX4_carry 16 = .ok (.iastore, 1) := dk_79 (dk_at dksX4_carry_0 16 rfl rfl)
theorem dX4_carry_17 : decode cX4_carry 17 = .ok (.aload_n 0, 1) := dk_42 (dk_at dksX4_carry_0 17 rfl rfl)
theorem dX4_carry_18 : decode cX4_carry 18 = .ok (.dup, 1) := dk_89 (dk_at dksX4_carry_0 18 rfl rfl)
theorem dX4_carry_19 : decode cX4_carry 19 = .ok (.getfield 183, 3) := dk_180 0 183 (dk_at dksX4_carry_0 19 rfl rfl)
theorem dX4_carry_22 : decode cX4_carry 22 = .ok (.iconst 1, 1) := dk_4 (dk_at dksX4_carry_0 22 rfl rfl)
theorem dX4_carry_23 : decode cX4_carry 23 = .ok (.iadd, 1) := dk_96 (dk_at dksX4_carry_0 23 rfl rfl)
theorem dX4_carry_24 : decode cX4_carry 24 = .ok (.putfield 183, 3) := dk_181 0 183 (dk_at dksX4_carry_1 0 rfl rfl)
theorem dX4_carry_27 : decode cX4_carry 27 = .ok (.aload_n 0, 1) := dk_42 (dk_at dksX4_carry_1 3 rfl rfl)
theorem dX4_carry_28 : decode cX4_carry 28 = .ok (.getfield 180, 3) := dk_180 0 180 (dk_at dksX4_carry_1 4 rfl rfl)
theorem dX4_carry_31 : decode cX4_carry 31 = .ok (.aload_n 0, 1) := dk_42 (dk_at dksX4_carry_1 7 rfl rfl)
theorem dX4_carry_32 : decode cX4_carry 32 = .ok (.getfield 183, 3) := dk_180 0 183 (dk_at dksX4_carry_1 8 rfl rfl)
theorem dX4_carry_35 : decode cX4_carry 35 = .ok (.iconst 1, 1) := dk_4 (dk_at dksX4_carry_1 11 rfl rfl)
theorem dX4_carry_36 : decode cX4_carry 36 = .ok (.isub, 1) := dk_100 (dk_at dksX4_carry_1 12 rfl rfl)
theorem dX4_carry_37 : decode cX4_carry 37 = .ok (.iaload, 1) := dk_46 (dk_at dksX4_carry_1 13 rfl rfl)
theorem dX4_carry_38 : decode cX4_carry 38 = .ok (.ireturn, 1) := dk_172 (dk_at dksX4_carry_1 14 rfl rfl)
abbrev cX4_restore : ByteArray := prog_21_method_29_code
def yX4_restore : MethodName := ⟨RX4, "restore", "()I"⟩
def dkwX4_restore_1 : List UInt8 := [42, 180, 0, 133, 172]
abbrev dktX4_restore_1 : List UInt8 := dkwX4_restore_1 ++ []
def dkwX4_restore_0 : List UInt8 := [42, 3, 181, 0, 102, 42, 180, 0, 196, 154, 0, 6, 16, 253, 172, 42, 42, 180, 0, 68, 3, 182, 0, 189]
abbrev dktX4_restore_0 : List UInt8 := dkwX4_restore_0 ++ dktX4_restore_1
theorem dksX4_restore_0 : cX4_restore.data.toList.drop 0 = dktX4_restore_0 := by decide +kernel
theorem dksX4_restore_1 : cX4_restore.data.toList.drop 24 = dktX4_restore_1 := dk_seg dksX4_restore_0 24 rfl rfl
theorem dX4_restore_0 : decode cX4_restore 0 = .ok (.aload_n 0, 1) := dk_42 (dk_at dksX4_restore_0 0 rfl rfl)
theorem dX4_restore_1 : decode cX4_restore 1 = .ok (.iconst 0, 1) := dk_3 (dk_at dksX4_restore_0 1 rfl rfl)
theorem dX4_restore_2 : decode cX4_restore 2 = .ok (.putfield 102, 3) := dk_181 0 102 (dk_at dksX4_restore_0 2 rfl rfl)
theorem dX4_restore_5 : decode cX4_restore 5 = .ok (.aload_n 0, 1) := dk_42 (dk_at dksX4_restore_0 5 rfl rfl)
theorem dX4_restore_6 : decode cX4_restore 6 = .ok (.getfield 196, 3) := dk_180 0 196 (dk_at dksX4_restore_0 6 rfl rfl)
theorem dX4_restore_9 : decode cX4_restore 9 = .ok (.ifCond .ne 6, 3) := dk_154 0 6 (dk_at dksX4_restore_0 9 rfl rfl)
theorem dX4_restore_12 : decode cX4_restore 12 = .ok (.bipush (-3), 2) := dk_16 253 (dk_at dksX4_restore_0 12 rfl rfl)
theorem dX4_restore_14 : decode cX4_restore 14 = .ok (.ireturn, 1) := dk_172 (dk_at dksX4_restore_0 14 rfl rfl)
theorem dX4_restore_15 : decode cX4_restore 15 = .ok (.aload_n 0, 1) := dk_42 (dk_at dksX4_restore_0 15 rfl rfl)
theorem dX4_restore_16 : decode cX4_restore 16 = .ok (.aload_n 0, 1) := dk_42 (dk_at dksX4_restore_0 16 rfl rfl)
theorem dX4_restore_17 : decode cX4_restore 17 = .ok (.getfield 68, 3) := dk_180 0 68 (dk_at dksX4_restore_0 17 rfl rfl)
theorem dX4_restore_20 : decode cX4_restore 20 = .ok (.iconst 0, 1) := dk_3 (dk_at dksX4_restore_0 20 rfl rfl)
theorem dX4_restore_21 : decode cX4_restore 21 = .ok (.invokevirtual 189, 3) := dk_182 0 189 (dk_at dksX4_restore_0 21 rfl rfl)
theorem dX4_restore_24 : decode cX4_restore 24 = .ok (.aload_n 0, 1) := dk_42 (dk_at dksX4_restore_1 0 rfl rfl)
theorem dX4_restore_25 : decode cX4_restore 25 = .ok (.getfield 133, 3) := dk_180 0 133 (dk_at dksX4_restore_1 1 rfl rfl)
theorem dX4_restore_28 : decode cX4_restore 28 = .ok (.ireturn, 1) := dk_172 (dk_at dksX4_restore_1 4 rfl rfl)
abbrev cX4_house : ByteArray := prog_21_method_38_code
def yX4_house : MethodName := ⟨RX4, "house", "(I)I"⟩
def dkwX4_house_6 : List UInt8 := [42, 180, 0, 222, 172]
abbrev dktX4_house_6 : List UInt8 := dkwX4_house_6 ++ []
def dkwX4_house_5 : List UInt8 := [154, 0, 18, 42, 182, 1, 0, 17, 248, 48, 42, 180, 0, 71, 29, 46, 100, 172, 132, 3, 1, 167, 255, 222]
abbrev dktX4_house_5 : List UInt8 := dkwX4_house_5 ++ dktX4_house_6
def dkwX4_house_4 : List UInt8 := [180, 0, 199, 100, 172, 42, 182, 0, 250, 3, 62, 29, 42, 180, 0, 222, 162, 0, 32, 42, 29, 182, 0, 253]
abbrev dktX4_house_4 : List UInt8 := dkwX4_house_4 ++ dktX4_house_5
def dkwX4_house_3 : List UInt8 := [180, 0, 202, 162, 0, 10, 42, 182, 0, 247, 167, 255, 227, 42, 180, 0, 208, 153, 0, 12, 17, 252, 24, 42]
abbrev dktX4_house_3 : List UInt8 := dkwX4_house_3 ++ dktX4_house_4
def dkwX4_house_2 : List UInt8 := [3, 181, 0, 222, 42, 180, 0, 208, 154, 0, 28, 42, 180, 0, 222, 153, 0, 14, 42, 180, 0, 199, 42]
abbrev dktX4_house_2 : List UInt8 := dkwX4_house_2 ++ dktX4_house_3
def dkwX4_house_1 : List UInt8 := [181, 0, 205, 42, 42, 180, 0, 92, 27, 46, 181, 0, 202, 42, 3, 181, 0, 199, 42, 3, 181, 0, 208, 42]
abbrev dktX4_house_1 : List UInt8 := dkwX4_house_1 ++ dktX4_house_2
def dkwX4_house_0 : List UInt8 := [42, 3, 181, 0, 102, 42, 27, 3, 182, 0, 244, 61, 28, 156, 0, 5, 28, 172, 42, 16, 100, 27, 104]
abbrev dktX4_house_0 : List UInt8 := dkwX4_house_0 ++ dktX4_house_1
theorem dksX4_house_0 : cX4_house.data.toList.drop 0 = dktX4_house_0 := by decide +kernel
theorem dksX4_house_1 : cX4_house.data.toList.drop 23 = dktX4_house_1 := dk_seg dksX4_house_0 23 rfl rfl
theorem dksX4_house_2 : cX4_house.data.toList.drop 47 = dktX4_house_2 := dk_seg dksX4_house_1 24 rfl rfl
theorem dksX4_house_3 : cX4_house.data.toList.drop 70 = dktX4_house_3 := dk_seg dksX4_house_2 23 rfl rfl
theorem dksX4_house_4 : cX4_house.data.toList.drop 94 = dktX4_house_4 := dk_seg dksX4_house_3 24 rfl rfl
theorem dksX4_house_5 : cX4_house.data.toList.drop 118 = dktX4_house_5 := dk_seg dksX4_house_4 24 rfl rfl
theorem dksX4_house_6 : cX4_house.data.toList.drop 142 = dktX4_house_6 := dk_seg dksX4_house_5 24 rfl rfl
theorem dX4_house_0 : decode cX4_house 0 = .ok (.aload_n 0, 1) := dk_42 (dk_at dksX4_house_0 0 rfl rfl)
theorem dX4_house_1 : decode cX4_house 1 = .ok (.iconst 0, 1) := dk_3 (dk_at dksX4_house_0 1 rfl rfl)
theorem dX4_house_2 : decode cX4_house 2 = .ok (.putfield 102, 3) := dk_181 0 102 (dk_at dksX4_house_0 2 rfl rfl)
theorem dX4_house_5 : decode cX4_house 5 = .ok (.aload_n 0, 1) := dk_42 (dk_at dksX4_house_0 5 rfl rfl)
theorem dX4_house_6 : decode cX4_house 6 = .ok (.iload_n 1, 1) := dk_27 (dk_at dksX4_house_0 6 rfl rfl)
theorem dX4_house_7 : decode cX4_house 7 = .ok (.iconst 0, 1) := dk_3 (dk_at dksX4_house_0 7 rfl rfl)
theorem dX4_house_8 : decode cX4_house 8 = .ok (.invokevirtual 244, 3) := dk_182 0 244 (dk_at dksX4_house_0 8 rfl rfl)
theorem dX4_house_11 : decode cX4_house 11 = .ok (.istore_n 2, 1) := dk_61 (dk_at dksX4_house_0 11 rfl rfl)
theorem dX4_house_12 : decode cX4_house 12 = .ok (.iload_n 2, 1) := dk_28 (dk_at dksX4_house_0 12 rfl rfl)
theorem dX4_house_13 : decode cX4_house 13 = .ok (.ifCond .ge 5, 3) := dk_156 0 5 (dk_at dksX4_house_0 13 rfl rfl)
theorem dX4_house_16 : decode cX4_house 16 = .ok (.iload_n 2, 1) := dk_28 (dk_at dksX4_house_0 16 rfl rfl)
theorem dX4_house_17 : decode cX4_house 17 = .ok (.ireturn, 1) := dk_172 (dk_at dksX4_house_0 17 rfl rfl)
theorem dX4_house_18 : decode cX4_house 18 = .ok (.aload_n 0, 1) := dk_42 (dk_at dksX4_house_0 18 rfl rfl)
theorem dX4_house_19 : decode cX4_house 19 = .ok (.bipush 100, 2) := dk_16 100 (dk_at dksX4_house_0 19 rfl rfl)
theorem dX4_house_21 : decode cX4_house 21 = .ok (.iload_n 1, 1) := dk_27 (dk_at dksX4_house_0 21 rfl rfl)
theorem dX4_house_22 : decode cX4_house 22 = .ok (.imul, 1) := dk_104 (dk_at dksX4_house_0 22 rfl rfl)
theorem dX4_house_23 : decode cX4_house 23 = .ok (.putfield 205, 3) := dk_181 0 205 (dk_at dksX4_house_1 0 rfl rfl)
theorem dX4_house_26 : decode cX4_house 26 = .ok (.aload_n 0, 1) := dk_42 (dk_at dksX4_house_1 3 rfl rfl)
theorem dX4_house_27 : decode cX4_house 27 = .ok (.aload_n 0, 1) := dk_42 (dk_at dksX4_house_1 4 rfl rfl)
theorem dX4_house_28 : decode cX4_house 28 = .ok (.getfield 92, 3) := dk_180 0 92 (dk_at dksX4_house_1 5 rfl rfl)
theorem dX4_house_31 : decode cX4_house 31 = .ok (.iload_n 1, 1) := dk_27 (dk_at dksX4_house_1 8 rfl rfl)
theorem dX4_house_32 : decode cX4_house 32 = .ok (.iaload, 1) := dk_46 (dk_at dksX4_house_1 9 rfl rfl)
theorem dX4_house_33 : decode cX4_house 33 = .ok (.putfield 202, 3) := dk_181 0 202 (dk_at dksX4_house_1 10 rfl rfl)
theorem dX4_house_36 : decode cX4_house 36 = .ok (.aload_n 0, 1) := dk_42 (dk_at dksX4_house_1 13 rfl rfl)
theorem dX4_house_37 : decode cX4_house 37 = .ok (.iconst 0, 1) := dk_3 (dk_at dksX4_house_1 14 rfl rfl)
theorem dX4_house_38 : decode cX4_house 38 = .ok (.putfield 199, 3) := dk_181 0 199 (dk_at dksX4_house_1 15 rfl rfl)
theorem dX4_house_41 : decode cX4_house 41 = .ok (.aload_n 0, 1) := dk_42 (dk_at dksX4_house_1 18 rfl rfl)
theorem dX4_house_42 : decode cX4_house 42 = .ok (.iconst 0, 1) := dk_3 (dk_at dksX4_house_1 19 rfl rfl)
theorem dX4_house_43 : decode cX4_house 43 = .ok (.putfield 208, 3) := dk_181 0 208 (dk_at dksX4_house_1 20 rfl rfl)
theorem dX4_house_46 : decode cX4_house 46 = .ok (.aload_n 0, 1) := dk_42 (dk_at dksX4_house_1 23 rfl rfl)
theorem dX4_house_47 : decode cX4_house 47 = .ok (.iconst 0, 1) := dk_3 (dk_at dksX4_house_2 0 rfl rfl)
theorem dX4_house_48 : decode cX4_house 48 = .ok (.putfield 222, 3) := dk_181 0 222 (dk_at dksX4_house_2 1 rfl rfl)
theorem dX4_house_51 : decode cX4_house 51 = .ok (.aload_n 0, 1) := dk_42 (dk_at dksX4_house_2 4 rfl rfl)
theorem dX4_house_52 : decode cX4_house 52 = .ok (.getfield 208, 3) := dk_180 0 208 (dk_at dksX4_house_2 5 rfl rfl)
theorem dX4_house_55 : decode cX4_house 55 = .ok (.ifCond .ne 28, 3) := dk_154 0 28 (dk_at dksX4_house_2 8 rfl rfl)
theorem dX4_house_58 : decode cX4_house 58 = .ok (.aload_n 0, 1) := dk_42 (dk_at dksX4_house_2 11 rfl rfl)
theorem dX4_house_59 : decode cX4_house 59 = .ok (.getfield 222, 3) := dk_180 0 222 (dk_at dksX4_house_2 12 rfl rfl)
theorem dX4_house_62 : decode cX4_house 62 = .ok (.ifCond .eq 14, 3) := dk_153 0 14 (dk_at dksX4_house_2 15 rfl rfl)
theorem dX4_house_65 : decode cX4_house 65 = .ok (.aload_n 0, 1) := dk_42 (dk_at dksX4_house_2 18 rfl rfl)
theorem dX4_house_66 : decode cX4_house 66 = .ok (.getfield 199, 3) := dk_180 0 199 (dk_at dksX4_house_2 19 rfl rfl)
theorem dX4_house_69 : decode cX4_house 69 = .ok (.aload_n 0, 1) := dk_42 (dk_at dksX4_house_2 22 rfl rfl)
theorem dX4_house_70 : decode cX4_house 70 = .ok (.getfield 202, 3) := dk_180 0 202 (dk_at dksX4_house_3 0 rfl rfl)
theorem dX4_house_73 : decode cX4_house 73 = .ok (.if_icmp .ge 10, 3) := dk_162 0 10 (dk_at dksX4_house_3 3 rfl rfl)
theorem dX4_house_76 : decode cX4_house 76 = .ok (.aload_n 0, 1) := dk_42 (dk_at dksX4_house_3 6 rfl rfl)
theorem dX4_house_77 : decode cX4_house 77 = .ok (.invokevirtual 247, 3) := dk_182 0 247 (dk_at dksX4_house_3 7 rfl rfl)
theorem dX4_house_80 : decode cX4_house 80 = .ok (.goto (-29), 3) := dk_167 255 227 (dk_at dksX4_house_3 10 rfl rfl)
theorem dX4_house_83 : decode cX4_house 83 = .ok (.aload_n 0, 1) := dk_42 (dk_at dksX4_house_3 13 rfl rfl)
theorem dX4_house_84 : decode cX4_house 84 = .ok (.getfield 208, 3) := dk_180 0 208 (dk_at dksX4_house_3 14 rfl rfl)
theorem dX4_house_87 : decode cX4_house 87 = .ok (.ifCond .eq 12, 3) := dk_153 0 12 (dk_at dksX4_house_3 17 rfl rfl)
theorem dX4_house_90 : decode cX4_house 90 = .ok (.sipush (-1000), 3) := dk_17 252 24 (dk_at dksX4_house_3 20 rfl rfl)
theorem dX4_house_93 : decode cX4_house 93 = .ok (.aload_n 0, 1) := dk_42 (dk_at dksX4_house_3 23 rfl rfl)
theorem dX4_house_94 : decode cX4_house 94 = .ok (.getfield 199, 3) := dk_180 0 199 (dk_at dksX4_house_4 0 rfl rfl)
theorem dX4_house_97 : decode cX4_house 97 = .ok (.isub, 1) := dk_100 (dk_at dksX4_house_4 3 rfl rfl)
theorem dX4_house_98 : decode cX4_house 98 = .ok (.ireturn, 1) := dk_172 (dk_at dksX4_house_4 4 rfl rfl)
theorem dX4_house_99 : decode cX4_house 99 = .ok (.aload_n 0, 1) := dk_42 (dk_at dksX4_house_4 5 rfl rfl)
theorem dX4_house_100 : decode cX4_house 100 = .ok (.invokevirtual 250, 3) := dk_182 0 250 (dk_at dksX4_house_4 6 rfl rfl)
theorem dX4_house_103 : decode cX4_house 103 = .ok (.iconst 0, 1) := dk_3 (dk_at dksX4_house_4 9 rfl rfl)
theorem dX4_house_104 : decode cX4_house 104 = .ok (.istore_n 3, 1) := dk_62 (dk_at dksX4_house_4 10 rfl rfl)
theorem dX4_house_105 : decode cX4_house 105 = .ok (.iload_n 3, 1) := dk_29 (dk_at dksX4_house_4 11 rfl rfl)
theorem dX4_house_106 : decode cX4_house 106 = .ok (.aload_n 0, 1) := dk_42 (dk_at dksX4_house_4 12 rfl rfl)
theorem dX4_house_107 : decode cX4_house 107 = .ok (.getfield 222, 3) := dk_180 0 222 (dk_at dksX4_house_4 13 rfl rfl)
theorem dX4_house_110 : decode cX4_house 110 = .ok (.if_icmp .ge 32, 3) := dk_162 0 32 (dk_at dksX4_house_4 16 rfl rfl)
theorem dX4_house_113 : decode cX4_house 113 = .ok (.aload_n 0, 1) := dk_42 (dk_at dksX4_house_4 19 rfl rfl)
theorem dX4_house_114 : decode cX4_house 114 = .ok (.iload_n 3, 1) := dk_29 (dk_at dksX4_house_4 20 rfl rfl)
theorem dX4_house_115 : decode cX4_house 115 = .ok (.invokevirtual 253, 3) := dk_182 0 253 (dk_at dksX4_house_4 21 rfl rfl)
theorem dX4_house_118 : decode cX4_house 118 = .ok (.ifCond .ne 18, 3) := dk_154 0 18 (dk_at dksX4_house_5 0 rfl rfl)
theorem dX4_house_121 : decode cX4_house 121 = .ok (.aload_n 0, 1) := dk_42 (dk_at dksX4_house_5 3 rfl rfl)
theorem dX4_house_122 : decode cX4_house 122 = .ok (.invokevirtual 256, 3) := dk_182 1 0 (dk_at dksX4_house_5 4 rfl rfl)
theorem dX4_house_125 : decode cX4_house 125 = .ok (.sipush (-2000), 3) := dk_17 248 48 (dk_at dksX4_house_5 7 rfl rfl)
theorem dX4_house_128 : decode cX4_house 128 = .ok (.aload_n 0, 1) := dk_42 (dk_at dksX4_house_5 10 rfl rfl)
theorem dX4_house_129 : decode cX4_house 129 = .ok (.getfield 71, 3) := dk_180 0 71 (dk_at dksX4_house_5 11 rfl rfl)
theorem dX4_house_132 : decode cX4_house 132 = .ok (.iload_n 3, 1) := dk_29 (dk_at dksX4_house_5 14 rfl rfl)
theorem dX4_house_133 : decode cX4_house 133 = .ok (.iaload, 1) := dk_46 (dk_at dksX4_house_5 15 rfl rfl)
theorem dX4_house_134 : decode cX4_house 134 = .ok (.isub, 1) := dk_100 (dk_at dksX4_house_5 16 rfl rfl)
theorem dX4_house_135 : decode cX4_house 135 = .ok (.ireturn, 1) := dk_172 (dk_at dksX4_house_5 17 rfl rfl)
theorem dX4_house_136 : decode cX4_house 136 = .ok (.iinc 3 1, 3) := dk_132 3 1 (dk_at dksX4_house_5 18 rfl rfl)
theorem dX4_house_139 : decode cX4_house 139 = .ok (.goto (-34), 3) := dk_167 255 222 (dk_at dksX4_house_5 21 rfl rfl)
theorem dX4_house_142 : decode cX4_house 142 = .ok (.aload_n 0, 1) := dk_42 (dk_at dksX4_house_6 0 rfl rfl)
theorem dX4_house_143 : decode cX4_house 143 = .ok (.getfield 222, 3) := dk_180 0 222 (dk_at dksX4_house_6 1 rfl rfl)
theorem dX4_house_146 : decode cX4_house 146 = .ok (.ireturn, 1) := dk_172 (dk_at dksX4_house_6 4 rfl rfl)
abbrev cX4_wrongSort : ByteArray := prog_21_method_76_code
def yX4_wrongSort : MethodName := ⟨RX4, "wrongSort", "(II)I"⟩
def dkwX4_wrongSort_1 : List UInt8 := [159, 0, 8, 16, 244, 167, 0, 4, 3, 172]
abbrev dktX4_wrongSort_1 : List UInt8 := dkwX4_wrongSort_1 ++ []
def dkwX4_wrongSort_0 : List UInt8 := [42, 27, 182, 1, 56, 156, 0, 11, 42, 27, 182, 1, 56, 167, 0, 19, 42, 180, 0, 89, 27, 46, 28]
abbrev dktX4_wrongSort_0 : List UInt8 := dkwX4_wrongSort_0 ++ dktX4_wrongSort_1
theorem dksX4_wrongSort_0 : cX4_wrongSort.data.toList.drop 0 = dktX4_wrongSort_0 := by decide +kernel
theorem dksX4_wrongSort_1 : cX4_wrongSort.data.toList.drop 23 = dktX4_wrongSort_1 := dk_seg dksX4_wrongSort_0 23 rfl rfl
theorem dX4_wrongSort_0 : decode cX4_wrongSort 0 = .ok (.aload_n 0, 1) := dk_42 (dk_at dksX4_wrongSort_0 0 rfl rfl)
theorem dX4_wrongSort_1 : decode cX4_wrongSort 1 = .ok (.iload_n 1, 1) := dk_27 (dk_at dksX4_wrongSort_0 1 rfl rfl)
theorem dX4_wrongSort_2 : decode cX4_wrongSort 2 = .ok (.invokevirtual 312, 3) := dk_182 1 56 (dk_at dksX4_wrongSort_0 2 rfl rfl)
theorem dX4_wrongSort_5 : decode cX4_wrongSort 5 = .ok (.ifCond .ge 11, 3) := dk_156 0 11 (dk_at dksX4_wrongSort_0 5 rfl rfl)
theorem dX4_wrongSort_8 : decode cX4_wrongSort 8 = .ok (.aload_n 0, 1) := dk_42 (dk_at dksX4_wrongSort_0 8 rfl rfl)
theorem dX4_wrongSort_9 : decode cX4_wrongSort 9 = .ok (.iload_n 1, 1) := dk_27 (dk_at dksX4_wrongSort_0 9 rfl rfl)
theorem dX4_wrongSort_10 : decode cX4_wrongSort 10 = .ok (.invokevirtual 312, 3) := dk_182 1 56 (dk_at dksX4_wrongSort_0 10 rfl rfl)
theorem dX4_wrongSort_13 : decode cX4_wrongSort 13 = .ok (.goto 19, 3) := dk_167 0 19 (dk_at dksX4_wrongSort_0 13 rfl rfl)
theorem dX4_wrongSort_16 : decode cX4_wrongSort 16 = .ok (.aload_n 0, 1) := dk_42 (dk_at dksX4_wrongSort_0 16 rfl rfl)
theorem dX4_wrongSort_17 : decode cX4_wrongSort 17 = .ok (.getfield 89, 3) := dk_180 0 89 (dk_at dksX4_wrongSort_0 17 rfl rfl)
theorem dX4_wrongSort_20 : decode cX4_wrongSort 20 = .ok (.iload_n 1, 1) := dk_27 (dk_at dksX4_wrongSort_0 20 rfl rfl)
theorem dX4_wrongSort_21 : decode cX4_wrongSort 21 = .ok (.iaload, 1) := dk_46 (dk_at dksX4_wrongSort_0 21 rfl rfl)
theorem dX4_wrongSort_22 : decode cX4_wrongSort 22 = .ok (.iload_n 2, 1) := dk_28 (dk_at dksX4_wrongSort_0 22 rfl rfl)
theorem dX4_wrongSort_23 : decode cX4_wrongSort 23 = .ok (.if_icmp .eq 8, 3) := dk_159 0 8 (dk_at dksX4_wrongSort_1 0 rfl rfl)
theorem dX4_wrongSort_26 : decode cX4_wrongSort 26 = .ok (.bipush (-12), 2) := dk_16 244 (dk_at dksX4_wrongSort_1 3 rfl rfl)
theorem dX4_wrongSort_28 : decode cX4_wrongSort 28 = .ok (.goto 4, 3) := dk_167 0 4 (dk_at dksX4_wrongSort_1 5 rfl rfl)
theorem dX4_wrongSort_31 : decode cX4_wrongSort 31 = .ok (.iconst 0, 1) := dk_3 (dk_at dksX4_wrongSort_1 8 rfl rfl)
theorem dX4_wrongSort_32 : decode cX4_wrongSort 32 = .ok (.ireturn, 1) := dk_172 (dk_at dksX4_wrongSort_1 9 rfl rfl)
abbrev cX4_wrongRow : ByteArray := prog_21_method_78_code
def yX4_wrongRow : MethodName := ⟨RX4, "wrongRow", "(I)I"⟩
def dkwX4_wrongRow_2 : List UInt8 := [172]
abbrev dktX4_wrongRow_2 : List UInt8 := dkwX4_wrongRow_2 ++ []
def dkwX4_wrongRow_1 : List UInt8 := [154, 0, 8, 16, 245, 167, 0, 19, 42, 180, 0, 80, 27, 46, 5, 159, 0, 8, 16, 244, 167, 0, 4, 3]
abbrev dktX4_wrongRow_1 : List UInt8 := dkwX4_wrongRow_1 ++ dktX4_wrongRow_2
def dkwX4_wrongRow_0 : List UInt8 := [27, 133, 9, 20, 1, 7, 184, 0, 108, 154, 0, 7, 2, 167, 0, 33, 42, 180, 0, 80, 27, 46]
abbrev dktX4_wrongRow_0 : List UInt8 := dkwX4_wrongRow_0 ++ dktX4_wrongRow_1
theorem dksX4_wrongRow_0 : cX4_wrongRow.data.toList.drop 0 = dktX4_wrongRow_0 := by decide +kernel
theorem dksX4_wrongRow_1 : cX4_wrongRow.data.toList.drop 22 = dktX4_wrongRow_1 := dk_seg dksX4_wrongRow_0 22 rfl rfl
theorem dksX4_wrongRow_2 : cX4_wrongRow.data.toList.drop 46 = dktX4_wrongRow_2 := dk_seg dksX4_wrongRow_1 24 rfl rfl
theorem dX4_wrongRow_0 : decode cX4_wrongRow 0 = .ok (.iload_n 1, 1) := dk_27 (dk_at dksX4_wrongRow_0 0 rfl rfl)
theorem dX4_wrongRow_1 : decode cX4_wrongRow 1 = .ok (.i2l, 1) := dk_133 (dk_at dksX4_wrongRow_0 1 rfl rfl)
theorem dX4_wrongRow_2 : decode cX4_wrongRow 2 = .ok (.lconst 0, 1) := dk_9 (dk_at dksX4_wrongRow_0 2 rfl rfl)
theorem dX4_wrongRow_3 : decode cX4_wrongRow 3 = .ok (.ldc2_w 263, 3) := dk_20 1 7 (dk_at dksX4_wrongRow_0 3 rfl rfl)
theorem dX4_wrongRow_6 : decode cX4_wrongRow 6 = .ok (.invokestatic 108, 3) := dk_184 0 108 (dk_at dksX4_wrongRow_0 6 rfl rfl)
theorem dX4_wrongRow_9 : decode cX4_wrongRow 9 = .ok (.ifCond .ne 7, 3) := dk_154 0 7 (dk_at dksX4_wrongRow_0 9 rfl rfl)
theorem dX4_wrongRow_12 : decode cX4_wrongRow 12 = .ok (.iconst (-1), 1) := dk_2 (dk_at dksX4_wrongRow_0 12 rfl rfl)
theorem dX4_wrongRow_13 : decode cX4_wrongRow 13 = .ok (.goto 33, 3) := dk_167 0 33 (dk_at dksX4_wrongRow_0 13 rfl rfl)
theorem dX4_wrongRow_16 : decode cX4_wrongRow 16 = .ok (.aload_n 0, 1) := dk_42 (dk_at dksX4_wrongRow_0 16 rfl rfl)
theorem dX4_wrongRow_17 : decode cX4_wrongRow 17 = .ok (.getfield 80, 3) := dk_180 0 80 (dk_at dksX4_wrongRow_0 17 rfl rfl)
theorem dX4_wrongRow_20 : decode cX4_wrongRow 20 = .ok (.iload_n 1, 1) := dk_27 (dk_at dksX4_wrongRow_0 20 rfl rfl)
theorem dX4_wrongRow_21 : decode cX4_wrongRow 21 = .ok (.iaload, 1) := dk_46 (dk_at dksX4_wrongRow_0 21 rfl rfl)
theorem dX4_wrongRow_22 : decode cX4_wrongRow 22 = .ok (.ifCond .ne 8, 3) := dk_154 0 8 (dk_at dksX4_wrongRow_1 0 rfl rfl)
theorem dX4_wrongRow_25 : decode cX4_wrongRow 25 = .ok (.bipush (-11), 2) := dk_16 245 (dk_at dksX4_wrongRow_1 3 rfl rfl)
theorem dX4_wrongRow_27 : decode cX4_wrongRow 27 = .ok (.goto 19, 3) := dk_167 0 19 (dk_at dksX4_wrongRow_1 5 rfl rfl)
theorem dX4_wrongRow_30 : decode cX4_wrongRow 30 = .ok (.aload_n 0, 1) := dk_42 (dk_at dksX4_wrongRow_1 8 rfl rfl)
theorem dX4_wrongRow_31 : decode cX4_wrongRow 31 = .ok (.getfield 80, 3) := dk_180 0 80 (dk_at dksX4_wrongRow_1 9 rfl rfl)
theorem dX4_wrongRow_34 : decode cX4_wrongRow 34 = .ok (.iload_n 1, 1) := dk_27 (dk_at dksX4_wrongRow_1 12 rfl rfl)
theorem dX4_wrongRow_35 : decode cX4_wrongRow 35 = .ok (.iaload, 1) := dk_46 (dk_at dksX4_wrongRow_1 13 rfl rfl)
theorem dX4_wrongRow_36 : decode cX4_wrongRow 36 = .ok (.iconst 2, 1) := dk_5 (dk_at dksX4_wrongRow_1 14 rfl rfl)
theorem dX4_wrongRow_37 : decode cX4_wrongRow 37 = .ok (.if_icmp .eq 8, 3) := dk_159 0 8 (dk_at dksX4_wrongRow_1 15 rfl rfl)
theorem dX4_wrongRow_40 : decode cX4_wrongRow 40 = .ok (.bipush (-12), 2) := dk_16 244 (dk_at dksX4_wrongRow_1 18 rfl rfl)
theorem dX4_wrongRow_42 : decode cX4_wrongRow 42 = .ok (.goto 4, 3) := dk_167 0 4 (dk_at dksX4_wrongRow_1 20 rfl rfl)
theorem dX4_wrongRow_45 : decode cX4_wrongRow 45 = .ok (.iconst 0, 1) := dk_3 (dk_at dksX4_wrongRow_1 23 rfl rfl)
theorem dX4_wrongRow_46 : decode cX4_wrongRow 46 = .ok (.ireturn, 1) := dk_172 (dk_at dksX4_wrongRow_2 0 rfl rfl)
abbrev cX4_in : ByteArray := prog_21_method_3_code
def yX4_in : MethodName := ⟨RX4, "in", "(JJJ)Z"⟩
def dkwX4_in_0 : List UInt8 := [30, 32, 148, 155, 0, 14, 30, 22, 4, 148, 157, 0, 7, 4, 167, 0, 4, 3, 172]
abbrev dktX4_in_0 : List UInt8 := dkwX4_in_0 ++ []
theorem dksX4_in_0 : cX4_in.data.toList.drop 0 = dktX4_in_0 := by decide +kernel
theorem dX4_in_0 : decode cX4_in 0 = .ok (.lload_n 0, 1) := dk_30 (dk_at dksX4_in_0 0 rfl rfl)
theorem dX4_in_1 : decode cX4_in 1 = .ok (.lload_n 2, 1) := dk_32 (dk_at dksX4_in_0 1 rfl rfl)
theorem dX4_in_2 : decode cX4_in 2 = .ok (.lcmp, 1) := dk_148 (dk_at dksX4_in_0 2 rfl rfl)
theorem dX4_in_3 : decode cX4_in 3 = .ok (.ifCond .lt 14, 3) := dk_155 0 14 (dk_at dksX4_in_0 3 rfl rfl)
theorem dX4_in_6 : decode cX4_in 6 = .ok (.lload_n 0, 1) := dk_30 (dk_at dksX4_in_0 6 rfl rfl)
theorem dX4_in_7 : decode cX4_in 7 = .ok (.lload 4, 2) := dk_22 4 (dk_at dksX4_in_0 7 rfl rfl)
theorem dX4_in_9 : decode cX4_in 9 = .ok (.lcmp, 1) := dk_148 (dk_at dksX4_in_0 9 rfl rfl)
theorem dX4_in_10 : decode cX4_in 10 = .ok (.ifCond .gt 7, 3) := dk_157 0 7 (dk_at dksX4_in_0 10 rfl rfl)
theorem dX4_in_13 : decode cX4_in 13 = .ok (.iconst 1, 1) := dk_4 (dk_at dksX4_in_0 13 rfl rfl)
theorem dX4_in_14 : decode cX4_in 14 = .ok (.goto 4, 3) := dk_167 0 4 (dk_at dksX4_in_0 14 rfl rfl)
theorem dX4_in_17 : decode cX4_in 17 = .ok (.iconst 0, 1) := dk_3 (dk_at dksX4_in_0 17 rfl rfl)
theorem dX4_in_18 : decode cX4_in 18 = .ok (.ireturn, 1) := dk_172 (dk_at dksX4_in_0 18 rfl rfl)
abbrev cX4_readStatement : ByteArray := prog_21_method_33_code
def yX4_readStatement : MethodName := ⟨RX4, "readStatement", "()V"⟩
def dkwX4_readStatement_13 : List UInt8 := [181, 0, 222, 177]
abbrev dktX4_readStatement_13 : List UInt8 := dkwX4_readStatement_13 ++ []
def dkwX4_readStatement_12 : List UInt8 := [180, 0, 208, 153, 0, 7, 3, 167, 0, 4, 4, 96, 181, 0, 199, 42, 89, 180, 0, 222, 4, 96]
abbrev dktX4_readStatement_12 : List UInt8 := dkwX4_readStatement_12 ++ dktX4_readStatement_13
def dkwX4_readStatement_11 : List UInt8 := [182, 0, 211, 16, 59, 159, 0, 7, 4, 167, 0, 4, 3, 181, 0, 208, 42, 89, 180, 0, 199, 42]
abbrev dktX4_readStatement_11 : List UInt8 := dkwX4_readStatement_11 ++ dktX4_readStatement_12
def dkwX4_readStatement_10 : List UInt8 := [180, 0, 77, 8, 27, 104, 46, 104, 42, 182, 0, 219, 96, 79, 42, 42, 180, 0, 208, 154, 0, 12, 42]
abbrev dktX4_readStatement_10 : List UInt8 := dkwX4_readStatement_10 ++ dktX4_readStatement_11
def dkwX4_readStatement_9 : List UInt8 := [20, 0, 215, 20, 0, 217, 184, 0, 108, 153, 0, 27, 42, 180, 0, 77, 8, 27, 104, 16, 10, 42]
abbrev dktX4_readStatement_9 : List UInt8 := dkwX4_readStatement_9 ++ dktX4_readStatement_10
def dkwX4_readStatement_8 : List UInt8 := [182, 0, 225, 79, 28, 16, 116, 160, 0, 51, 42, 180, 0, 208, 154, 0, 44, 42, 182, 0, 211, 133]
abbrev dktX4_readStatement_8 : List UInt8 := dkwX4_readStatement_8 ++ dktX4_readStatement_9
def dkwX4_readStatement_7 : List UInt8 := [132, 4, 1, 167, 255, 232, 28, 16, 104, 160, 0, 17, 42, 180, 0, 77, 8, 27, 104, 4, 96, 42]
abbrev dktX4_readStatement_7 : List UInt8 := dkwX4_readStatement_7 ++ dktX4_readStatement_8
def dkwX4_readStatement_6 : List UInt8 := [3, 54, 4, 21, 4, 29, 162, 0, 24, 42, 180, 0, 77, 8, 27, 104, 21, 4, 96, 42, 182, 0, 219, 79]
abbrev dktX4_readStatement_6 : List UInt8 := dkwX4_readStatement_6 ++ dktX4_readStatement_7
def dkwX4_readStatement_5 : List UInt8 := [28, 16, 104, 159, 0, 15, 28, 16, 99, 159, 0, 9, 28, 16, 116, 160, 0, 7, 4, 167, 0, 4, 3, 62]
abbrev dktX4_readStatement_5 : List UInt8 := dkwX4_readStatement_5 ++ dktX4_readStatement_6
def dkwX4_readStatement_4 : List UInt8 := [96, 181, 0, 199, 28, 16, 103, 160, 0, 7, 7, 167, 0, 36, 28, 16, 112, 160, 0, 7, 8, 167, 0, 26]
abbrev dktX4_readStatement_4 : List UInt8 := dkwX4_readStatement_4 ++ dktX4_readStatement_5
def dkwX4_readStatement_3 : List UInt8 := [167, 0, 4, 3, 181, 0, 208, 42, 89, 180, 0, 199, 42, 180, 0, 208, 153, 0, 7, 3, 167, 0, 4, 4]
abbrev dktX4_readStatement_3 : List UInt8 := dkwX4_readStatement_3 ++ dktX4_readStatement_4
def dkwX4_readStatement_2 : List UInt8 := [16, 104, 159, 0, 25, 28, 16, 99, 159, 0, 19, 28, 16, 116, 159, 0, 13, 28, 16, 109, 159, 0, 7, 4]
abbrev dktX4_readStatement_2 : List UInt8 := dkwX4_readStatement_2 ++ dktX4_readStatement_3
def dkwX4_readStatement_1 : List UInt8 := [27, 28, 79, 42, 42, 180, 0, 208, 154, 0, 39, 28, 16, 103, 159, 0, 37, 28, 16, 112, 159, 0, 31, 28]
abbrev dktX4_readStatement_1 : List UInt8 := dkwX4_readStatement_1 ++ dktX4_readStatement_2
def dkwX4_readStatement_0 : List UInt8 := [42, 180, 0, 222, 60, 42, 182, 0, 211, 61, 42, 180, 0, 71, 27, 42, 180, 0, 199, 79, 42, 180, 0, 74]
abbrev dktX4_readStatement_0 : List UInt8 := dkwX4_readStatement_0 ++ dktX4_readStatement_1
theorem dksX4_readStatement_0 : cX4_readStatement.data.toList.drop 0 = dktX4_readStatement_0 := by decide +kernel
theorem dksX4_readStatement_1 : cX4_readStatement.data.toList.drop 24 = dktX4_readStatement_1 := dk_seg dksX4_readStatement_0 24 rfl rfl
theorem dksX4_readStatement_2 : cX4_readStatement.data.toList.drop 48 = dktX4_readStatement_2 := dk_seg dksX4_readStatement_1 24 rfl rfl
theorem dksX4_readStatement_3 : cX4_readStatement.data.toList.drop 72 = dktX4_readStatement_3 := dk_seg dksX4_readStatement_2 24 rfl rfl
theorem dksX4_readStatement_4 : cX4_readStatement.data.toList.drop 96 = dktX4_readStatement_4 := dk_seg dksX4_readStatement_3 24 rfl rfl
theorem dksX4_readStatement_5 : cX4_readStatement.data.toList.drop 120 = dktX4_readStatement_5 := dk_seg dksX4_readStatement_4 24 rfl rfl
theorem dksX4_readStatement_6 : cX4_readStatement.data.toList.drop 144 = dktX4_readStatement_6 := dk_seg dksX4_readStatement_5 24 rfl rfl
theorem dksX4_readStatement_7 : cX4_readStatement.data.toList.drop 168 = dktX4_readStatement_7 := dk_seg dksX4_readStatement_6 24 rfl rfl
theorem dksX4_readStatement_8 : cX4_readStatement.data.toList.drop 190 = dktX4_readStatement_8 := dk_seg dksX4_readStatement_7 22 rfl rfl
theorem dksX4_readStatement_9 : cX4_readStatement.data.toList.drop 212 = dktX4_readStatement_9 := dk_seg dksX4_readStatement_8 22 rfl rfl
theorem dksX4_readStatement_10 : cX4_readStatement.data.toList.drop 234 = dktX4_readStatement_10 := dk_seg dksX4_readStatement_9 22 rfl rfl
theorem dksX4_readStatement_11 : cX4_readStatement.data.toList.drop 257 = dktX4_readStatement_11 := dk_seg dksX4_readStatement_10 23 rfl rfl
theorem dksX4_readStatement_12 : cX4_readStatement.data.toList.drop 279 = dktX4_readStatement_12 := dk_seg dksX4_readStatement_11 22 rfl rfl
theorem dksX4_readStatement_13 : cX4_readStatement.data.toList.drop 301 = dktX4_readStatement_13 := dk_seg dksX4_readStatement_12 22 rfl rfl
theorem dX4_readStatement_0 : decode cX4_readStatement 0 = .ok (.aload_n 0, 1) := dk_42 (dk_at dksX4_readStatement_0 0 rfl rfl)
theorem dX4_readStatement_1 : decode cX4_readStatement 1 = .ok (.getfield 222, 3) := dk_180 0 222 (dk_at dksX4_readStatement_0 1 rfl rfl)
theorem dX4_readStatement_4 : decode cX4_readStatement 4 = .ok (.istore_n 1, 1) := dk_60 (dk_at dksX4_readStatement_0 4 rfl rfl)
theorem dX4_readStatement_5 : decode cX4_readStatement 5 = .ok (.aload_n 0, 1) := dk_42 (dk_at dksX4_readStatement_0 5 rfl rfl)
theorem dX4_readStatement_6 : decode cX4_readStatement 6 = .ok (.invokevirtual 211, 3) := dk_182 0 211 (dk_at dksX4_readStatement_0 6 rfl rfl)
theorem dX4_readStatement_9 : decode cX4_readStatement 9 = .ok (.istore_n 2, 1) := dk_61 (dk_at dksX4_readStatement_0 9 rfl rfl)
theorem dX4_readStatement_10 : decode cX4_readStatement 10 = .ok (.aload_n 0, 1) := dk_42 (dk_at dksX4_readStatement_0 10 rfl rfl)
theorem dX4_readStatement_11 : decode cX4_readStatement 11 = .ok (.getfield 71, 3) := dk_180 0 71 (dk_at dksX4_readStatement_0 11 rfl rfl)
theorem dX4_readStatement_14 : decode cX4_readStatement 14 = .ok (.iload_n 1, 1) := dk_27 (dk_at dksX4_readStatement_0 14 rfl rfl)
theorem dX4_readStatement_15 : decode cX4_readStatement 15 = .ok (.aload_n 0, 1) := dk_42 (dk_at dksX4_readStatement_0 15 rfl rfl)
theorem dX4_readStatement_16 : decode cX4_readStatement 16 = .ok (.getfield 199, 3) := dk_180 0 199 (dk_at dksX4_readStatement_0 16 rfl rfl)
theorem dX4_readStatement_19 : decode cX4_readStatement 19 = .ok (.iastore, 1) := dk_79 (dk_at dksX4_readStatement_0 19 rfl rfl)
theorem dX4_readStatement_20 : decode cX4_readStatement 20 = .ok (.aload_n 0, 1) := dk_42 (dk_at dksX4_readStatement_0 20 rfl rfl)
theorem dX4_readStatement_21 : decode cX4_readStatement 21 = .ok (.getfield 74, 3) := dk_180 0 74 (dk_at dksX4_readStatement_0 21 rfl rfl)
theorem dX4_readStatement_24 : decode cX4_readStatement 24 = .ok (.iload_n 1, 1) := dk_27 (dk_at dksX4_readStatement_1 0 rfl rfl)
theorem dX4_readStatement_25 : decode cX4_readStatement 25 = .ok (.iload_n 2, 1) := dk_28 (dk_at dksX4_readStatement_1 1 rfl rfl)
theorem dX4_readStatement_26 : decode cX4_readStatement 26 = .ok (.iastore, 1) := dk_79 (dk_at dksX4_readStatement_1 2 rfl rfl)
theorem dX4_readStatement_27 : decode cX4_readStatement 27 = .ok (.aload_n 0, 1) := dk_42 (dk_at dksX4_readStatement_1 3 rfl rfl)
theorem dX4_readStatement_28 : decode cX4_readStatement 28 = .ok (.aload_n 0, 1) := dk_42 (dk_at dksX4_readStatement_1 4 rfl rfl)
theorem dX4_readStatement_29 : decode cX4_readStatement 29 = .ok (.getfield 208, 3) := dk_180 0 208 (dk_at dksX4_readStatement_1 5 rfl rfl)
theorem dX4_readStatement_32 : decode cX4_readStatement 32 = .ok (.ifCond .ne 39, 3) := dk_154 0 39 (dk_at dksX4_readStatement_1 8 rfl rfl)
theorem dX4_readStatement_35 : decode cX4_readStatement 35 = .ok (.iload_n 2, 1) := dk_28 (dk_at dksX4_readStatement_1 11 rfl rfl)
theorem dX4_readStatement_36 : decode cX4_readStatement 36 = .ok (.bipush 103, 2) := dk_16 103 (dk_at dksX4_readStatement_1 12 rfl rfl)
theorem dX4_readStatement_38 : decode cX4_readStatement 38 = .ok (.if_icmp .eq 37, 3) := dk_159 0 37 (dk_at dksX4_readStatement_1 14 rfl rfl)
theorem dX4_readStatement_41 : decode cX4_readStatement 41 = .ok (.iload_n 2, 1) := dk_28 (dk_at dksX4_readStatement_1 17 rfl rfl)
theorem dX4_readStatement_42 : decode cX4_readStatement 42 = .ok (.bipush 112, 2) := dk_16 112 (dk_at dksX4_readStatement_1 18 rfl rfl)
theorem dX4_readStatement_44 : decode cX4_readStatement 44 = .ok (.if_icmp .eq 31, 3) := dk_159 0 31 (dk_at dksX4_readStatement_1 20 rfl rfl)
theorem dX4_readStatement_47 : decode cX4_readStatement 47 = .ok (.iload_n 2, 1) := dk_28 (dk_at dksX4_readStatement_1 23 rfl rfl)
theorem dX4_readStatement_48 : decode cX4_readStatement 48 = .ok (.bipush 104, 2) := dk_16 104 (dk_at dksX4_readStatement_2 0 rfl rfl)
theorem dX4_readStatement_50 : decode cX4_readStatement 50 = .ok (.if_icmp .eq 25, 3) := dk_159 0 25 (dk_at dksX4_readStatement_2 2 rfl rfl)
theorem dX4_readStatement_53 : decode cX4_readStatement 53 = .ok (.iload_n 2, 1) := dk_28 (dk_at dksX4_readStatement_2 5 rfl rfl)
theorem dX4_readStatement_54 : decode cX4_readStatement 54 = .ok (.bipush 99, 2) := dk_16 99 (dk_at dksX4_readStatement_2 6 rfl rfl)
theorem dX4_readStatement_56 : decode cX4_readStatement 56 = .ok (.if_icmp .eq 19, 3) := dk_159 0 19 (dk_at dksX4_readStatement_2 8 rfl rfl)
theorem dX4_readStatement_59 : decode cX4_readStatement 59 = .ok (.iload_n 2, 1) := dk_28 (dk_at dksX4_readStatement_2 11 rfl rfl)
theorem dX4_readStatement_60 : decode cX4_readStatement 60 = .ok (.bipush 116, 2) := dk_16 116 (dk_at dksX4_readStatement_2 12 rfl rfl)
theorem dX4_readStatement_62 : decode cX4_readStatement 62 = .ok (.if_icmp .eq 13, 3) := dk_159 0 13 (dk_at dksX4_readStatement_2 14 rfl rfl)
theorem dX4_readStatement_65 : decode cX4_readStatement 65 = .ok (.iload_n 2, 1) := dk_28 (dk_at dksX4_readStatement_2 17 rfl rfl)
theorem dX4_readStatement_66 : decode cX4_readStatement 66 = .ok (.bipush 109, 2) := dk_16 109 (dk_at dksX4_readStatement_2 18 rfl rfl)
theorem dX4_readStatement_68 : decode cX4_readStatement 68 = .ok (.if_icmp .eq 7, 3) := dk_159 0 7 (dk_at dksX4_readStatement_2 20 rfl rfl)
theorem dX4_readStatement_71 : decode cX4_readStatement 71 = .ok (.iconst 1, 1) := dk_4 (dk_at dksX4_readStatement_2 23 rfl rfl)
theorem dX4_readStatement_72 : decode cX4_readStatement 72 = .ok (.goto 4, 3) := dk_167 0 4 (dk_at dksX4_readStatement_3 0 rfl rfl)
theorem dX4_readStatement_75 : decode cX4_readStatement 75 = .ok (.iconst 0, 1) := dk_3 (dk_at dksX4_readStatement_3 3 rfl rfl)
theorem dX4_readStatement_76 : decode cX4_readStatement 76 = .ok (.putfield 208, 3) := dk_181 0 208 (dk_at dksX4_readStatement_3 4 rfl rfl)
theorem dX4_readStatement_79 : decode cX4_readStatement 79 = .ok (.aload_n 0, 1) := dk_42 (dk_at dksX4_readStatement_3 7 rfl rfl)
theorem dX4_readStatement_80 : decode cX4_readStatement 80 = .ok (.dup, 1) := dk_89 (dk_at dksX4_readStatement_3 8 rfl rfl)
theorem dX4_readStatement_81 : decode cX4_readStatement 81 = .ok (.getfield 199, 3) := dk_180 0 199 (dk_at dksX4_readStatement_3 9 rfl rfl)
theorem dX4_readStatement_84 : decode cX4_readStatement 84 = .ok (.aload_n 0, 1) := dk_42 (dk_at dksX4_readStatement_3 12 rfl rfl)
theorem dX4_readStatement_85 : decode cX4_readStatement 85 = .ok (.getfield 208, 3) := dk_180 0 208 (dk_at dksX4_readStatement_3 13 rfl rfl)
theorem dX4_readStatement_88 : decode cX4_readStatement 88 = .ok (.ifCond .eq 7, 3) := dk_153 0 7 (dk_at dksX4_readStatement_3 16 rfl rfl)
theorem dX4_readStatement_91 : decode cX4_readStatement 91 = .ok (.iconst 0, 1) := dk_3 (dk_at dksX4_readStatement_3 19 rfl rfl)
theorem dX4_readStatement_92 : decode cX4_readStatement 92 = .ok (.goto 4, 3) := dk_167 0 4 (dk_at dksX4_readStatement_3 20 rfl rfl)
theorem dX4_readStatement_95 : decode cX4_readStatement 95 = .ok (.iconst 1, 1) := dk_4 (dk_at dksX4_readStatement_3 23 rfl rfl)
theorem dX4_readStatement_96 : decode cX4_readStatement 96 = .ok (.iadd, 1) := dk_96 (dk_at dksX4_readStatement_4 0 rfl rfl)
theorem dX4_readStatement_97 : decode cX4_readStatement 97 = .ok (.putfield 199, 3) := dk_181 0 199 (dk_at dksX4_readStatement_4 1 rfl rfl)
theorem dX4_readStatement_100 : decode cX4_readStatement 100 = .ok (.iload_n 2, 1) := dk_28 (dk_at dksX4_readStatement_4 4 rfl rfl)
theorem dX4_readStatement_101 : decode cX4_readStatement 101 = .ok (.bipush 103, 2) := dk_16 103 (dk_at dksX4_readStatement_4 5 rfl rfl)
theorem dX4_readStatement_103 : decode cX4_readStatement 103 = .ok (.if_icmp .ne 7, 3) := dk_160 0 7 (dk_at dksX4_readStatement_4 7 rfl rfl)
theorem dX4_readStatement_106 : decode cX4_readStatement 106 = .ok (.iconst 4, 1) := dk_7 (dk_at dksX4_readStatement_4 10 rfl rfl)
theorem dX4_readStatement_107 : decode cX4_readStatement 107 = .ok (.goto 36, 3) := dk_167 0 36 (dk_at dksX4_readStatement_4 11 rfl rfl)
theorem dX4_readStatement_110 : decode cX4_readStatement 110 = .ok (.iload_n 2, 1) := dk_28 (dk_at dksX4_readStatement_4 14 rfl rfl)
theorem dX4_readStatement_111 : decode cX4_readStatement 111 = .ok (.bipush 112, 2) := dk_16 112 (dk_at dksX4_readStatement_4 15 rfl rfl)
theorem dX4_readStatement_113 : decode cX4_readStatement 113 = .ok (.if_icmp .ne 7, 3) := dk_160 0 7 (dk_at dksX4_readStatement_4 17 rfl rfl)
theorem dX4_readStatement_116 : decode cX4_readStatement 116 = .ok (.iconst 5, 1) := dk_8 (dk_at dksX4_readStatement_4 20 rfl rfl)
theorem dX4_readStatement_117 : decode cX4_readStatement 117 = .ok (.goto 26, 3) := dk_167 0 26 (dk_at dksX4_readStatement_4 21 rfl rfl)
theorem dX4_readStatement_120 : decode cX4_readStatement 120 = .ok (.iload_n 2, 1) := dk_28 (dk_at dksX4_readStatement_5 0 rfl rfl)
theorem dX4_readStatement_121 : decode cX4_readStatement 121 = .ok (.bipush 104, 2) := dk_16 104 (dk_at dksX4_readStatement_5 1 rfl rfl)
theorem dX4_readStatement_123 : decode cX4_readStatement 123 = .ok (.if_icmp .eq 15, 3) := dk_159 0 15 (dk_at dksX4_readStatement_5 3 rfl rfl)
theorem dX4_readStatement_126 : decode cX4_readStatement 126 = .ok (.iload_n 2, 1) := dk_28 (dk_at dksX4_readStatement_5 6 rfl rfl)
theorem dX4_readStatement_127 : decode cX4_readStatement 127 = .ok (.bipush 99, 2) := dk_16 99 (dk_at dksX4_readStatement_5 7 rfl rfl)
theorem dX4_readStatement_129 : decode cX4_readStatement 129 = .ok (.if_icmp .eq 9, 3) := dk_159 0 9 (dk_at dksX4_readStatement_5 9 rfl rfl)
theorem dX4_readStatement_132 : decode cX4_readStatement 132 = .ok (.iload_n 2, 1) := dk_28 (dk_at dksX4_readStatement_5 12 rfl rfl)
theorem dX4_readStatement_133 : decode cX4_readStatement 133 = .ok (.bipush 116, 2) := dk_16 116 (dk_at dksX4_readStatement_5 13 rfl rfl)
theorem dX4_readStatement_135 : decode cX4_readStatement 135 = .ok (.if_icmp .ne 7, 3) := dk_160 0 7 (dk_at dksX4_readStatement_5 15 rfl rfl)
theorem dX4_readStatement_138 : decode cX4_readStatement 138 = .ok (.iconst 1, 1) := dk_4 (dk_at dksX4_readStatement_5 18 rfl rfl)
theorem dX4_readStatement_139 : decode cX4_readStatement 139 = .ok (.goto 4, 3) := dk_167 0 4 (dk_at dksX4_readStatement_5 19 rfl rfl)
theorem dX4_readStatement_142 : decode cX4_readStatement 142 = .ok (.iconst 0, 1) := dk_3 (dk_at dksX4_readStatement_5 22 rfl rfl)
theorem dX4_readStatement_143 : decode cX4_readStatement 143 = .ok (.istore_n 3, 1) := dk_62 (dk_at dksX4_readStatement_5 23 rfl rfl)
theorem dX4_readStatement_144 : decode cX4_readStatement 144 = .ok (.iconst 0, 1) := dk_3 (dk_at dksX4_readStatement_6 0 rfl rfl)
theorem dX4_readStatement_145 : decode cX4_readStatement 145 = .ok (.istore 4, 2) := dk_54 4 (dk_at dksX4_readStatement_6 1 rfl rfl)
theorem dX4_readStatement_147 : decode cX4_readStatement 147 = .ok (.iload 4, 2) := dk_21 4 (dk_at dksX4_readStatement_6 3 rfl rfl)
theorem dX4_readStatement_149 : decode cX4_readStatement 149 = .ok (.iload_n 3, 1) := dk_29 (dk_at dksX4_readStatement_6 5 rfl rfl)
theorem dX4_readStatement_150 : decode cX4_readStatement 150 = .ok (.if_icmp .ge 24, 3) := dk_162 0 24 (dk_at dksX4_readStatement_6 6 rfl rfl)
theorem dX4_readStatement_153 : decode cX4_readStatement 153 = .ok (.aload_n 0, 1) := dk_42 (dk_at dksX4_readStatement_6 9 rfl rfl)
theorem dX4_readStatement_154 : decode cX4_readStatement 154 = .ok (.getfield 77, 3) := dk_180 0 77 (dk_at dksX4_readStatement_6 10 rfl rfl)
theorem dX4_readStatement_157 : decode cX4_readStatement 157 = .ok (.iconst 5, 1) := dk_8 (dk_at dksX4_readStatement_6 13 rfl rfl)
theorem dX4_readStatement_158 : decode cX4_readStatement 158 = .ok (.iload_n 1, 1) := dk_27 (dk_at dksX4_readStatement_6 14 rfl rfl)
theorem dX4_readStatement_159 : decode cX4_readStatement 159 = .ok (.imul, 1) := dk_104 (dk_at dksX4_readStatement_6 15 rfl rfl)
theorem dX4_readStatement_160 : decode cX4_readStatement 160 = .ok (.iload 4, 2) := dk_21 4 (dk_at dksX4_readStatement_6 16 rfl rfl)
theorem dX4_readStatement_162 : decode cX4_readStatement 162 = .ok (.iadd, 1) := dk_96 (dk_at dksX4_readStatement_6 18 rfl rfl)
theorem dX4_readStatement_163 : decode cX4_readStatement 163 = .ok (.aload_n 0, 1) := dk_42 (dk_at dksX4_readStatement_6 19 rfl rfl)
theorem dX4_readStatement_164 : decode cX4_readStatement 164 = .ok (.invokevirtual 219, 3) := dk_182 0 219 (dk_at dksX4_readStatement_6 20 rfl rfl)
theorem dX4_readStatement_167 : decode cX4_readStatement 167 = .ok (.iastore, 1) := dk_79 (dk_at dksX4_readStatement_6 23 rfl rfl)
theorem dX4_readStatement_168 : decode cX4_readStatement 168 = .ok (.iinc 4 1, 3) := dk_132 4 1 (dk_at dksX4_readStatement_7 0 rfl rfl)
theorem dX4_readStatement_171 : decode cX4_readStatement 171 = .ok (.goto (-24), 3) := dk_167 255 232 (dk_at dksX4_readStatement_7 3 rfl rfl)
theorem dX4_readStatement_174 : decode cX4_readStatement 174 = .ok (.iload_n 2, 1) := dk_28 (dk_at dksX4_readStatement_7 6 rfl rfl)
theorem dX4_readStatement_175 : decode cX4_readStatement 175 = .ok (.bipush 104, 2) := dk_16 104 (dk_at dksX4_readStatement_7 7 rfl rfl)
theorem dX4_readStatement_177 : decode cX4_readStatement 177 = .ok (.if_icmp .ne 17, 3) := dk_160 0 17 (dk_at dksX4_readStatement_7 9 rfl rfl)
theorem dX4_readStatement_180 : decode cX4_readStatement 180 = .ok (.aload_n 0, 1) := dk_42 (dk_at dksX4_readStatement_7 12 rfl rfl)
theorem dX4_readStatement_181 : decode cX4_readStatement 181 = .ok (.getfield 77, 3) := dk_180 0 77 (dk_at dksX4_readStatement_7 13 rfl rfl)
theorem dX4_readStatement_184 : decode cX4_readStatement 184 = .ok (.iconst 5, 1) := dk_8 (dk_at dksX4_readStatement_7 16 rfl rfl)
theorem dX4_readStatement_185 : decode cX4_readStatement 185 = .ok (.iload_n 1, 1) := dk_27 (dk_at dksX4_readStatement_7 17 rfl rfl)
theorem dX4_readStatement_186 : decode cX4_readStatement 186 = .ok (.imul, 1) := dk_104 (dk_at dksX4_readStatement_7 18 rfl rfl)
theorem dX4_readStatement_187 : decode cX4_readStatement 187 = .ok (.iconst 1, 1) := dk_4 (dk_at dksX4_readStatement_7 19 rfl rfl)
theorem dX4_readStatement_188 : decode cX4_readStatement 188 = .ok (.iadd, 1) := dk_96 (dk_at dksX4_readStatement_7 20 rfl rfl)
theorem dX4_readStatement_189 : decode cX4_readStatement 189 = .ok (.aload_n 0, 1) := dk_42 (dk_at dksX4_readStatement_7 21 rfl rfl)
theorem dX4_readStatement_190 : decode cX4_readStatement 190 = .ok (.invokevirtual 225, 3) := dk_182 0 225 (dk_at dksX4_readStatement_8 0 rfl rfl)
theorem dX4_readStatement_193 : decode cX4_readStatement 193 = .ok (.iastore, 1) := dk_79 (dk_at dksX4_readStatement_8 3 rfl rfl)
theorem dX4_readStatement_194 : decode cX4_readStatement 194 = .ok (.iload_n 2, 1) := dk_28 (dk_at dksX4_readStatement_8 4 rfl rfl)
theorem dX4_readStatement_195 : decode cX4_readStatement 195 = .ok (.bipush 116, 2) := dk_16 116 (dk_at dksX4_readStatement_8 5 rfl rfl)
theorem dX4_readStatement_197 : decode cX4_readStatement 197 = .ok (.if_icmp .ne 51, 3) := dk_160 0 51 (dk_at dksX4_readStatement_8 7 rfl rfl)
theorem dX4_readStatement_200 : decode cX4_readStatement 200 = .ok (.aload_n 0, 1) := dk_42 (dk_at dksX4_readStatement_8 10 rfl rfl)
theorem dX4_readStatement_201 : decode cX4_readStatement 201 = .ok (.getfield 208, 3) := dk_180 0 208 (dk_at dksX4_readStatement_8 11 rfl rfl)
theorem dX4_readStatement_204 : decode cX4_readStatement 204 = .ok (.ifCond .ne 44, 3) := dk_154 0 44 (dk_at dksX4_readStatement_8 14 rfl rfl)
theorem dX4_readStatement_207 : decode cX4_readStatement 207 = .ok (.aload_n 0, 1) := dk_42 (dk_at dksX4_readStatement_8 17 rfl rfl)
theorem dX4_readStatement_208 : decode cX4_readStatement 208 = .ok (.invokevirtual 211, 3) := dk_182 0 211 (dk_at dksX4_readStatement_8 18 rfl rfl)
theorem dX4_readStatement_211 : decode cX4_readStatement 211 = .ok (.i2l, 1) := dk_133 (dk_at dksX4_readStatement_8 21 rfl rfl)
theorem dX4_readStatement_212 : decode cX4_readStatement 212 = .ok (.ldc2_w 215, 3) := dk_20 0 215 (dk_at dksX4_readStatement_9 0 rfl rfl)
theorem dX4_readStatement_215 : decode cX4_readStatement 215 = .ok (.ldc2_w 217, 3) := dk_20 0 217 (dk_at dksX4_readStatement_9 3 rfl rfl)
theorem dX4_readStatement_218 : decode cX4_readStatement 218 = .ok (.invokestatic 108, 3) := dk_184 0 108 (dk_at dksX4_readStatement_9 6 rfl rfl)
theorem dX4_readStatement_221 : decode cX4_readStatement 221 = .ok (.ifCond .eq 27, 3) := dk_153 0 27 (dk_at dksX4_readStatement_9 9 rfl rfl)
theorem dX4_readStatement_224 : decode cX4_readStatement 224 = .ok (.aload_n 0, 1) := dk_42 (dk_at dksX4_readStatement_9 12 rfl rfl)
theorem dX4_readStatement_225 : decode cX4_readStatement 225 = .ok (.getfield 77, 3) := dk_180 0 77 (dk_at dksX4_readStatement_9 13 rfl rfl)
theorem dX4_readStatement_228 : decode cX4_readStatement 228 = .ok (.iconst 5, 1) := dk_8 (dk_at dksX4_readStatement_9 16 rfl rfl)
theorem dX4_readStatement_229 : decode cX4_readStatement 229 = .ok (.iload_n 1, 1) := dk_27 (dk_at dksX4_readStatement_9 17 rfl rfl)
theorem dX4_readStatement_230 : decode cX4_readStatement 230 = .ok (.imul, 1) := dk_104 (dk_at dksX4_readStatement_9 18 rfl rfl)
theorem dX4_readStatement_231 : decode cX4_readStatement 231 = .ok (.bipush 10, 2) := dk_16 10 (dk_at dksX4_readStatement_9 19 rfl rfl)
theorem dX4_readStatement_233 : decode cX4_readStatement 233 = .ok (.aload_n 0, 1) := dk_42 (dk_at dksX4_readStatement_9 21 rfl rfl)
theorem dX4_readStatement_234 : decode cX4_readStatement 234 = .ok (.getfield 77, 3) := dk_180 0 77 (dk_at dksX4_readStatement_10 0 rfl rfl)
theorem dX4_readStatement_237 : decode cX4_readStatement 237 = .ok (.iconst 5, 1) := dk_8 (dk_at dksX4_readStatement_10 3 rfl rfl)
theorem dX4_readStatement_238 : decode cX4_readStatement 238 = .ok (.iload_n 1, 1) := dk_27 (dk_at dksX4_readStatement_10 4 rfl rfl)
theorem dX4_readStatement_239 : decode cX4_readStatement 239 = .ok (.imul, 1) := dk_104 (dk_at dksX4_readStatement_10 5 rfl rfl)
theorem dX4_readStatement_240 : decode cX4_readStatement 240 = .ok (.iaload, 1) := dk_46 (dk_at dksX4_readStatement_10 6 rfl rfl)
theorem dX4_readStatement_241 : decode cX4_readStatement 241 = .ok (.imul, 1) := dk_104 (dk_at dksX4_readStatement_10 7 rfl rfl)
theorem dX4_readStatement_242 : decode cX4_readStatement 242 = .ok (.aload_n 0, 1) := dk_42 (dk_at dksX4_readStatement_10 8 rfl rfl)
theorem dX4_readStatement_243 : decode cX4_readStatement 243 = .ok (.invokevirtual 219, 3) := dk_182 0 219 (dk_at dksX4_readStatement_10 9 rfl rfl)
theorem dX4_readStatement_246 : decode cX4_readStatement 246 = .ok (.iadd, 1) := dk_96 (dk_at dksX4_readStatement_10 12 rfl rfl)
theorem dX4_readStatement_247 : decode cX4_readStatement 247 = .ok (.iastore, 1) := dk_79 (dk_at dksX4_readStatement_10 13 rfl rfl)
theorem dX4_readStatement_248 : decode cX4_readStatement 248 = .ok (.aload_n 0, 1) := dk_42 (dk_at dksX4_readStatement_10 14 rfl rfl)
theorem dX4_readStatement_249 : decode cX4_readStatement 249 = .ok (.aload_n 0, 1) := dk_42 (dk_at dksX4_readStatement_10 15 rfl rfl)
theorem dX4_readStatement_250 : decode cX4_readStatement 250 = .ok (.getfield 208, 3) := dk_180 0 208 (dk_at dksX4_readStatement_10 16 rfl rfl)
theorem dX4_readStatement_253 : decode cX4_readStatement 253 = .ok (.ifCond .ne 12, 3) := dk_154 0 12 (dk_at dksX4_readStatement_10 19 rfl rfl)
theorem dX4_readStatement_256 : decode cX4_readStatement 256 = .ok (.aload_n 0, 1) := dk_42 (dk_at dksX4_readStatement_10 22 rfl rfl)
theorem dX4_readStatement_257 : decode cX4_readStatement 257 = .ok (.invokevirtual 211, 3) := dk_182 0 211 (dk_at dksX4_readStatement_11 0 rfl rfl)
theorem dX4_readStatement_260 : decode cX4_readStatement 260 = .ok (.bipush 59, 2) := dk_16 59 (dk_at dksX4_readStatement_11 3 rfl rfl)
theorem dX4_readStatement_262 : decode cX4_readStatement 262 = .ok (.if_icmp .eq 7, 3) := dk_159 0 7 (dk_at dksX4_readStatement_11 5 rfl rfl)
theorem dX4_readStatement_265 : decode cX4_readStatement 265 = .ok (.iconst 1, 1) := dk_4 (dk_at dksX4_readStatement_11 8 rfl rfl)
theorem dX4_readStatement_266 : decode cX4_readStatement 266 = .ok (.goto 4, 3) := dk_167 0 4 (dk_at dksX4_readStatement_11 9 rfl rfl)
theorem dX4_readStatement_269 : decode cX4_readStatement 269 = .ok (.iconst 0, 1) := dk_3 (dk_at dksX4_readStatement_11 12 rfl rfl)
theorem dX4_readStatement_270 : decode cX4_readStatement 270 = .ok (.putfield 208, 3) := dk_181 0 208 (dk_at dksX4_readStatement_11 13 rfl rfl)
theorem dX4_readStatement_273 : decode cX4_readStatement 273 = .ok (.aload_n 0, 1) := dk_42 (dk_at dksX4_readStatement_11 16 rfl rfl)
theorem dX4_readStatement_274 : decode cX4_readStatement 274 = .ok (.dup, 1) := dk_89 (dk_at dksX4_readStatement_11 17 rfl rfl)
theorem dX4_readStatement_275 : decode cX4_readStatement 275 = .ok (.getfield 199, 3) := dk_180 0 199 (dk_at dksX4_readStatement_11 18 rfl rfl)
theorem dX4_readStatement_278 : decode cX4_readStatement 278 = .ok (.aload_n 0, 1) := dk_42 (dk_at dksX4_readStatement_11 21 rfl rfl)
theorem dX4_readStatement_279 : decode cX4_readStatement 279 = .ok (.getfield 208, 3) := dk_180 0 208 (dk_at dksX4_readStatement_12 0 rfl rfl)
theorem dX4_readStatement_282 : decode cX4_readStatement 282 = .ok (.ifCond .eq 7, 3) := dk_153 0 7 (dk_at dksX4_readStatement_12 3 rfl rfl)
theorem dX4_readStatement_285 : decode cX4_readStatement 285 = .ok (.iconst 0, 1) := dk_3 (dk_at dksX4_readStatement_12 6 rfl rfl)
theorem dX4_readStatement_286 : decode cX4_readStatement 286 = .ok (.goto 4, 3) := dk_167 0 4 (dk_at dksX4_readStatement_12 7 rfl rfl)
theorem dX4_readStatement_289 : decode cX4_readStatement 289 = .ok (.iconst 1, 1) := dk_4 (dk_at dksX4_readStatement_12 10 rfl rfl)
theorem dX4_readStatement_290 : decode cX4_readStatement 290 = .ok (.iadd, 1) := dk_96 (dk_at dksX4_readStatement_12 11 rfl rfl)
theorem dX4_readStatement_291 : decode cX4_readStatement 291 = .ok (.putfield 199, 3) := dk_181 0 199 (dk_at dksX4_readStatement_12 12 rfl rfl)
theorem dX4_readStatement_294 : decode cX4_readStatement 294 = .ok (.aload_n 0, 1) := dk_42 (dk_at dksX4_readStatement_12 15 rfl rfl)
theorem dX4_readStatement_295 : decode cX4_readStatement 295 = .ok (.dup, 1) := dk_89 (dk_at dksX4_readStatement_12 16 rfl rfl)
theorem dX4_readStatement_296 : decode cX4_readStatement 296 = .ok (.getfield 222, 3) := dk_180 0 222 (dk_at dksX4_readStatement_12 17 rfl rfl)
theorem dX4_readStatement_299 : decode cX4_readStatement 299 = .ok (.iconst 1, 1) := dk_4 (dk_at dksX4_readStatement_12 20 rfl rfl)
theorem dX4_readStatement_300 : decode cX4_readStatement 300 = .ok (.iadd, 1) := dk_96 (dk_at dksX4_readStatement_12 21 rfl rfl)
theorem dX4_readStatement_301 : decode cX4_readStatement 301 = .ok (.putfield 222, 3) := dk_181 0 222 (dk_at dksX4_readStatement_13 0 rfl rfl)
theorem dX4_readStatement_304 : decode cX4_readStatement 304 = .ok (.return_, 1) := dk_177 (dk_at dksX4_readStatement_13 3 rfl rfl)
abbrev cX4_here : ByteArray := prog_21_method_30_code
def yX4_here : MethodName := ⟨RX4, "here", "()I"⟩
def dkwX4_here_1 : List UInt8 := [180, 0, 199, 96, 47, 136, 17, 0, 255, 126, 172]
abbrev dktX4_here_1 : List UInt8 := dkwX4_here_1 ++ []
def dkwX4_here_0 : List UInt8 := [42, 180, 0, 199, 42, 180, 0, 202, 161, 0, 7, 2, 167, 0, 22, 42, 180, 0, 95, 42, 180, 0, 205, 42]
abbrev dktX4_here_0 : List UInt8 := dkwX4_here_0 ++ dktX4_here_1
theorem dksX4_here_0 : cX4_here.data.toList.drop 0 = dktX4_here_0 := by decide +kernel
theorem dksX4_here_1 : cX4_here.data.toList.drop 24 = dktX4_here_1 := dk_seg dksX4_here_0 24 rfl rfl
theorem dX4_here_0 : decode cX4_here 0 = .ok (.aload_n 0, 1) := dk_42 (dk_at dksX4_here_0 0 rfl rfl)
theorem dX4_here_1 : decode cX4_here 1 = .ok (.getfield 199, 3) := dk_180 0 199 (dk_at dksX4_here_0 1 rfl rfl)
theorem dX4_here_4 : decode cX4_here 4 = .ok (.aload_n 0, 1) := dk_42 (dk_at dksX4_here_0 4 rfl rfl)
theorem dX4_here_5 : decode cX4_here 5 = .ok (.getfield 202, 3) := dk_180 0 202 (dk_at dksX4_here_0 5 rfl rfl)
theorem dX4_here_8 : decode cX4_here 8 = .ok (.if_icmp .lt 7, 3) := dk_161 0 7 (dk_at dksX4_here_0 8 rfl rfl)
theorem dX4_here_11 : decode cX4_here 11 = .ok (.iconst (-1), 1) := dk_2 (dk_at dksX4_here_0 11 rfl rfl)
theorem dX4_here_12 : decode cX4_here 12 = .ok (.goto 22, 3) := dk_167 0 22 (dk_at dksX4_here_0 12 rfl rfl)
theorem dX4_here_15 : decode cX4_here 15 = .ok (.aload_n 0, 1) := dk_42 (dk_at dksX4_here_0 15 rfl rfl)
theorem dX4_here_16 : decode cX4_here 16 = .ok (.getfield 95, 3) := dk_180 0 95 (dk_at dksX4_here_0 16 rfl rfl)
theorem dX4_here_19 : decode cX4_here 19 = .ok (.aload_n 0, 1) := dk_42 (dk_at dksX4_here_0 19 rfl rfl)
theorem dX4_here_20 : decode cX4_here 20 = .ok (.getfield 205, 3) := dk_180 0 205 (dk_at dksX4_here_0 20 rfl rfl)
theorem dX4_here_23 : decode cX4_here 23 = .ok (.aload_n 0, 1) := dk_42 (dk_at dksX4_here_0 23 rfl rfl)
theorem dX4_here_24 : decode cX4_here 24 = .ok (.getfield 199, 3) := dk_180 0 199 (dk_at dksX4_here_1 0 rfl rfl)
theorem dX4_here_27 : decode cX4_here 27 = .ok (.iadd, 1) := dk_96 (dk_at dksX4_here_1 3 rfl rfl)
theorem dX4_here_28 : decode cX4_here 28 = .ok (.laload, 1) := dk_47 (dk_at dksX4_here_1 4 rfl rfl)
theorem dX4_here_29 : decode cX4_here 29 = .ok (.l2i, 1) := dk_136 (dk_at dksX4_here_1 5 rfl rfl)
theorem dX4_here_30 : decode cX4_here 30 = .ok (.sipush 255, 3) := dk_17 0 255 (dk_at dksX4_here_1 6 rfl rfl)
theorem dX4_here_33 : decode cX4_here 33 = .ok (.iand, 1) := dk_126 (dk_at dksX4_here_1 9 rfl rfl)
theorem dX4_here_34 : decode cX4_here 34 = .ok (.ireturn, 1) := dk_172 (dk_at dksX4_here_1 10 rfl rfl)
abbrev cX4_readDigit : ByteArray := prog_21_method_31_code
def yX4_readDigit : MethodName := ⟨RX4, "readDigit", "()I"⟩
def dkwX4_readDigit_3 : List UInt8 := [136, 16, 48, 100, 172]
abbrev dktX4_readDigit_3 : List UInt8 := dkwX4_readDigit_3 ++ []
def dkwX4_readDigit_2 : List UInt8 := [180, 0, 199, 4, 96, 181, 0, 199, 42, 180, 0, 95, 42, 180, 0, 205, 42, 180, 0, 199, 96, 4, 100, 47]
abbrev dktX4_readDigit_2 : List UInt8 := dkwX4_readDigit_2 ++ dktX4_readDigit_3
def dkwX4_readDigit_1 : List UInt8 := [154, 0, 7, 4, 167, 0, 4, 3, 181, 0, 208, 42, 180, 0, 208, 153, 0, 5, 3, 172, 42, 89]
abbrev dktX4_readDigit_1 : List UInt8 := dkwX4_readDigit_1 ++ dktX4_readDigit_2
def dkwX4_readDigit_0 : List UInt8 := [42, 42, 180, 0, 208, 154, 0, 20, 42, 182, 0, 211, 133, 20, 0, 215, 20, 0, 217, 184, 0, 108]
abbrev dktX4_readDigit_0 : List UInt8 := dkwX4_readDigit_0 ++ dktX4_readDigit_1
theorem dksX4_readDigit_0 : cX4_readDigit.data.toList.drop 0 = dktX4_readDigit_0 := by decide +kernel
theorem dksX4_readDigit_1 : cX4_readDigit.data.toList.drop 22 = dktX4_readDigit_1 := dk_seg dksX4_readDigit_0 22 rfl rfl
theorem dksX4_readDigit_2 : cX4_readDigit.data.toList.drop 44 = dktX4_readDigit_2 := dk_seg dksX4_readDigit_1 22 rfl rfl
theorem dksX4_readDigit_3 : cX4_readDigit.data.toList.drop 68 = dktX4_readDigit_3 := dk_seg dksX4_readDigit_2 24 rfl rfl
theorem dX4_readDigit_0 : decode cX4_readDigit 0 = .ok (.aload_n 0, 1) := dk_42 (dk_at dksX4_readDigit_0 0 rfl rfl)
theorem dX4_readDigit_1 : decode cX4_readDigit 1 = .ok (.aload_n 0, 1) := dk_42 (dk_at dksX4_readDigit_0 1 rfl rfl)
theorem dX4_readDigit_2 : decode cX4_readDigit 2 = .ok (.getfield 208, 3) := dk_180 0 208 (dk_at dksX4_readDigit_0 2 rfl rfl)
theorem dX4_readDigit_5 : decode cX4_readDigit 5 = .ok (.ifCond .ne 20, 3) := dk_154 0 20 (dk_at dksX4_readDigit_0 5 rfl rfl)
theorem dX4_readDigit_8 : decode cX4_readDigit 8 = .ok (.aload_n 0, 1) := dk_42 (dk_at dksX4_readDigit_0 8 rfl rfl)
theorem dX4_readDigit_9 : decode cX4_readDigit 9 = .ok (.invokevirtual 211, 3) := dk_182 0 211 (dk_at dksX4_readDigit_0 9 rfl rfl)
theorem dX4_readDigit_12 : decode cX4_readDigit 12 = .ok (.i2l, 1) := dk_133 (dk_at dksX4_readDigit_0 12 rfl rfl)
theorem dX4_readDigit_13 : decode cX4_readDigit 13 = .ok (.ldc2_w 215, 3) := dk_20 0 215 (dk_at dksX4_readDigit_0 13 rfl rfl)
theorem dX4_readDigit_16 : decode cX4_readDigit 16 = .ok (.ldc2_w 217, 3) := dk_20 0 217 (dk_at dksX4_readDigit_0 16 rfl rfl)
theorem dX4_readDigit_19 : decode cX4_readDigit 19 = .ok (.invokestatic 108, 3) := dk_184 0 108 (dk_at dksX4_readDigit_0 19 rfl rfl)
theorem dX4_readDigit_22 : decode cX4_readDigit 22 = .ok (.ifCond .ne 7, 3) := dk_154 0 7 (dk_at dksX4_readDigit_1 0 rfl rfl)
theorem dX4_readDigit_25 : decode cX4_readDigit 25 = .ok (.iconst 1, 1) := dk_4 (dk_at dksX4_readDigit_1 3 rfl rfl)
theorem dX4_readDigit_26 : decode cX4_readDigit 26 = .ok (.goto 4, 3) := dk_167 0 4 (dk_at dksX4_readDigit_1 4 rfl rfl)
theorem dX4_readDigit_29 : decode cX4_readDigit 29 = .ok (.iconst 0, 1) := dk_3 (dk_at dksX4_readDigit_1 7 rfl rfl)
theorem dX4_readDigit_30 : decode cX4_readDigit 30 = .ok (.putfield 208, 3) := dk_181 0 208 (dk_at dksX4_readDigit_1 8 rfl rfl)
theorem dX4_readDigit_33 : decode cX4_readDigit 33 = .ok (.aload_n 0, 1) := dk_42 (dk_at dksX4_readDigit_1 11 rfl rfl)
theorem dX4_readDigit_34 : decode cX4_readDigit 34 = .ok (.getfield 208, 3) := dk_180 0 208 (dk_at dksX4_readDigit_1 12 rfl rfl)
theorem dX4_readDigit_37 : decode cX4_readDigit 37 = .ok (.ifCond .eq 5, 3) := dk_153 0 5 (dk_at dksX4_readDigit_1 15 rfl rfl)
theorem dX4_readDigit_40 : decode cX4_readDigit 40 = .ok (.iconst 0, 1) := dk_3 (dk_at dksX4_readDigit_1 18 rfl rfl)
theorem dX4_readDigit_41 : decode cX4_readDigit 41 = .ok (.ireturn, 1) := dk_172 (dk_at dksX4_readDigit_1 19 rfl rfl)
theorem dX4_readDigit_42 : decode cX4_readDigit 42 = .ok (.aload_n 0, 1) := dk_42 (dk_at dksX4_readDigit_1 20 rfl rfl)
theorem dX4_readDigit_43 : decode cX4_readDigit 43 = .ok (.dup, 1) := dk_89 (dk_at dksX4_readDigit_1 21 rfl rfl)
theorem dX4_readDigit_44 : decode cX4_readDigit 44 = .ok (.getfield 199, 3) := dk_180 0 199 (dk_at dksX4_readDigit_2 0 rfl rfl)
theorem dX4_readDigit_47 : decode cX4_readDigit 47 = .ok (.iconst 1, 1) := dk_4 (dk_at dksX4_readDigit_2 3 rfl rfl)
theorem dX4_readDigit_48 : decode cX4_readDigit 48 = .ok (.iadd, 1) := dk_96 (dk_at dksX4_readDigit_2 4 rfl rfl)
theorem dX4_readDigit_49 : decode cX4_readDigit 49 = .ok (.putfield 199, 3) := dk_181 0 199 (dk_at dksX4_readDigit_2 5 rfl rfl)
theorem dX4_readDigit_52 : decode cX4_readDigit 52 = .ok (.aload_n 0, 1) := dk_42 (dk_at dksX4_readDigit_2 8 rfl rfl)
theorem dX4_readDigit_53 : decode cX4_readDigit 53 = .ok (.getfield 95, 3) := dk_180 0 95 (dk_at dksX4_readDigit_2 9 rfl rfl)
theorem dX4_readDigit_56 : decode cX4_readDigit 56 = .ok (.aload_n 0, 1) := dk_42 (dk_at dksX4_readDigit_2 12 rfl rfl)
theorem dX4_readDigit_57 : decode cX4_readDigit 57 = .ok (.getfield 205, 3) := dk_180 0 205 (dk_at dksX4_readDigit_2 13 rfl rfl)
theorem dX4_readDigit_60 : decode cX4_readDigit 60 = .ok (.aload_n 0, 1) := dk_42 (dk_at dksX4_readDigit_2 16 rfl rfl)
theorem dX4_readDigit_61 : decode cX4_readDigit 61 = .ok (.getfield 199, 3) := dk_180 0 199 (dk_at dksX4_readDigit_2 17 rfl rfl)
theorem dX4_readDigit_64 : decode cX4_readDigit 64 = .ok (.iadd, 1) := dk_96 (dk_at dksX4_readDigit_2 20 rfl rfl)
theorem dX4_readDigit_65 : decode cX4_readDigit 65 = .ok (.iconst 1, 1) := dk_4 (dk_at dksX4_readDigit_2 21 rfl rfl)
theorem dX4_readDigit_66 : decode cX4_readDigit 66 = .ok (.isub, 1) := dk_100 (dk_at dksX4_readDigit_2 22 rfl rfl)
theorem dX4_readDigit_67 : decode cX4_readDigit 67 = .ok (.laload, 1) := dk_47 (dk_at dksX4_readDigit_2 23 rfl rfl)
theorem dX4_readDigit_68 : decode cX4_readDigit 68 = .ok (.l2i, 1) := dk_136 (dk_at dksX4_readDigit_3 0 rfl rfl)
theorem dX4_readDigit_69 : decode cX4_readDigit 69 = .ok (.bipush 48, 2) := dk_16 48 (dk_at dksX4_readDigit_3 1 rfl rfl)
theorem dX4_readDigit_71 : decode cX4_readDigit 71 = .ok (.isub, 1) := dk_100 (dk_at dksX4_readDigit_3 3 rfl rfl)
theorem dX4_readDigit_72 : decode cX4_readDigit 72 = .ok (.ireturn, 1) := dk_172 (dk_at dksX4_readDigit_3 4 rfl rfl)
abbrev cX4_readTwo : ByteArray := prog_21_method_32_code
def yX4_readTwo : MethodName := ⟨RX4, "readTwo", "()I"⟩
def dkwX4_readTwo_0 : List UInt8 := [42, 182, 0, 219, 60, 16, 10, 27, 104, 42, 182, 0, 219, 96, 172]
abbrev dktX4_readTwo_0 : List UInt8 := dkwX4_readTwo_0 ++ []
theorem dksX4_readTwo_0 : cX4_readTwo.data.toList.drop 0 = dktX4_readTwo_0 := by decide +kernel
theorem dX4_readTwo_0 : decode cX4_readTwo 0 = .ok (.aload_n 0, 1) := dk_42 (dk_at dksX4_readTwo_0 0 rfl rfl)
theorem dX4_readTwo_1 : decode cX4_readTwo 1 = .ok (.invokevirtual 219, 3) := dk_182 0 219 (dk_at dksX4_readTwo_0 1 rfl rfl)
theorem dX4_readTwo_4 : decode cX4_readTwo 4 = .ok (.istore_n 1, 1) := dk_60 (dk_at dksX4_readTwo_0 4 rfl rfl)
theorem dX4_readTwo_5 : decode cX4_readTwo 5 = .ok (.bipush 10, 2) := dk_16 10 (dk_at dksX4_readTwo_0 5 rfl rfl)
theorem dX4_readTwo_7 : decode cX4_readTwo 7 = .ok (.iload_n 1, 1) := dk_27 (dk_at dksX4_readTwo_0 7 rfl rfl)
theorem dX4_readTwo_8 : decode cX4_readTwo 8 = .ok (.imul, 1) := dk_104 (dk_at dksX4_readTwo_0 8 rfl rfl)
theorem dX4_readTwo_9 : decode cX4_readTwo 9 = .ok (.aload_n 0, 1) := dk_42 (dk_at dksX4_readTwo_0 9 rfl rfl)
theorem dX4_readTwo_10 : decode cX4_readTwo 10 = .ok (.invokevirtual 219, 3) := dk_182 0 219 (dk_at dksX4_readTwo_0 10 rfl rfl)
theorem dX4_readTwo_13 : decode cX4_readTwo 13 = .ok (.iadd, 1) := dk_96 (dk_at dksX4_readTwo_0 13 rfl rfl)
theorem dX4_readTwo_14 : decode cX4_readTwo 14 = .ok (.ireturn, 1) := dk_172 (dk_at dksX4_readTwo_0 14 rfl rfl)
abbrev cX4_open : ByteArray := prog_21_method_25_code
def yX4_open : MethodName := ⟨RX4, "open", "()V"⟩
def dkwX4_open_0 : List UInt8 := [42, 42, 180, 0, 65, 4, 182, 0, 189, 177]
abbrev dktX4_open_0 : List UInt8 := dkwX4_open_0 ++ []
theorem dksX4_open_0 : cX4_open.data.toList.drop 0 = dktX4_open_0 := by decide +kernel
theorem dX4_open_0 : decode cX4_open 0 = .ok (.aload_n 0, 1) := dk_42 (dk_at dksX4_open_0 0 rfl rfl)
theorem dX4_open_1 : decode cX4_open 1 = .ok (.aload_n 0, 1) := dk_42 (dk_at dksX4_open_0 1 rfl rfl)
theorem dX4_open_2 : decode cX4_open 2 = .ok (.getfield 65, 3) := dk_180 0 65 (dk_at dksX4_open_0 2 rfl rfl)
theorem dX4_open_5 : decode cX4_open 5 = .ok (.iconst 1, 1) := dk_4 (dk_at dksX4_open_0 5 rfl rfl)
theorem dX4_open_6 : decode cX4_open 6 = .ok (.invokevirtual 189, 3) := dk_182 0 189 (dk_at dksX4_open_0 6 rfl rfl)
theorem dX4_open_9 : decode cX4_open 9 = .ok (.return_, 1) := dk_177 (dk_at dksX4_open_0 9 rfl rfl)
abbrev cX4_comesAll : ByteArray := prog_21_method_37_code
def yX4_comesAll : MethodName := ⟨RX4, "comesAll", "(I)Z"⟩
def dkwX4_comesAll_6 : List UInt8 := [182, 0, 193, 42, 180, 0, 133, 17, 3, 231, 163, 0, 7, 4, 167, 0, 4, 3, 172]
abbrev dktX4_comesAll_6 : List UInt8 := dkwX4_comesAll_6 ++ []
def dkwX4_comesAll_5 : List UInt8 := [180, 0, 77, 28, 46, 182, 0, 228, 172, 42, 42, 180, 0, 77, 28, 46, 181, 0, 7, 4, 172, 42]
abbrev dktX4_comesAll_5 : List UInt8 := dkwX4_comesAll_5 ++ dktX4_comesAll_6
def dkwX4_comesAll_4 : List UInt8 := [42, 180, 0, 77, 28, 46, 4, 42, 180, 0, 59, 42, 180, 0, 77, 28, 46, 46, 100, 79, 42, 42]
abbrev dktX4_comesAll_4 : List UInt8 := dkwX4_comesAll_4 ++ dktX4_comesAll_5
def dkwX4_comesAll_3 : List UInt8 := [4, 96, 46, 182, 0, 241, 172, 42, 42, 180, 0, 77, 28, 46, 182, 0, 228, 153, 0, 27, 42, 180, 0, 59]
abbrev dktX4_comesAll_3 : List UInt8 := dkwX4_comesAll_3 ++ dktX4_comesAll_4
def dkwX4_comesAll_2 : List UInt8 := [42, 28, 182, 0, 235, 172, 42, 28, 182, 0, 238, 172, 42, 42, 180, 0, 77, 28, 46, 42, 180, 0, 77, 28]
abbrev dktX4_comesAll_2 : List UInt8 := dkwX4_comesAll_2 ++ dktX4_comesAll_3
def dkwX4_comesAll_1 : List UInt8 := [171, 0, 0, 0, 0, 141, 0, 0, 0, 5, 0, 0, 0, 99, 0, 0, 0, 81, 0, 0, 0, 103, 0, 0, 0, 50, 0, 0, 0, 104, 0, 0, 0, 62, 0, 0, 0, 112, 0, 0, 0, 56, 0, 0, 0, 116, 0, 0, 0, 129]
abbrev dktX4_comesAll_1 : List UInt8 := dkwX4_comesAll_1 ++ dktX4_comesAll_2
def dkwX4_comesAll_0 : List UInt8 := [8, 27, 104, 61, 42, 180, 0, 74, 27, 46]
abbrev dktX4_comesAll_0 : List UInt8 := dkwX4_comesAll_0 ++ dktX4_comesAll_1
theorem dksX4_comesAll_0 : cX4_comesAll.data.toList.drop 0 = dktX4_comesAll_0 := by decide +kernel
theorem dksX4_comesAll_1 : cX4_comesAll.data.toList.drop 10 = dktX4_comesAll_1 := dk_seg dksX4_comesAll_0 10 rfl rfl
theorem dksX4_comesAll_2 : cX4_comesAll.data.toList.drop 60 = dktX4_comesAll_2 := dk_seg dksX4_comesAll_1 50 rfl rfl
theorem dksX4_comesAll_3 : cX4_comesAll.data.toList.drop 84 = dktX4_comesAll_3 := dk_seg dksX4_comesAll_2 24 rfl rfl
theorem dksX4_comesAll_4 : cX4_comesAll.data.toList.drop 108 = dktX4_comesAll_4 := dk_seg dksX4_comesAll_3 24 rfl rfl
theorem dksX4_comesAll_5 : cX4_comesAll.data.toList.drop 130 = dktX4_comesAll_5 := dk_seg dksX4_comesAll_4 22 rfl rfl
theorem dksX4_comesAll_6 : cX4_comesAll.data.toList.drop 152 = dktX4_comesAll_6 := dk_seg dksX4_comesAll_5 22 rfl rfl
theorem dX4_comesAll_0 : decode cX4_comesAll 0 = .ok (.iconst 5, 1) := dk_8 (dk_at dksX4_comesAll_0 0 rfl rfl)
theorem dX4_comesAll_1 : decode cX4_comesAll 1 = .ok (.iload_n 1, 1) := dk_27 (dk_at dksX4_comesAll_0 1 rfl rfl)
theorem dX4_comesAll_2 : decode cX4_comesAll 2 = .ok (.imul, 1) := dk_104 (dk_at dksX4_comesAll_0 2 rfl rfl)
theorem dX4_comesAll_3 : decode cX4_comesAll 3 = .ok (.istore_n 2, 1) := dk_61 (dk_at dksX4_comesAll_0 3 rfl rfl)
theorem dX4_comesAll_4 : decode cX4_comesAll 4 = .ok (.aload_n 0, 1) := dk_42 (dk_at dksX4_comesAll_0 4 rfl rfl)
theorem dX4_comesAll_5 : decode cX4_comesAll 5 = .ok (.getfield 74, 3) := dk_180 0 74 (dk_at dksX4_comesAll_0 5 rfl rfl)
theorem dX4_comesAll_8 : decode cX4_comesAll 8 = .ok (.iload_n 1, 1) := dk_27 (dk_at dksX4_comesAll_0 8 rfl rfl)
theorem dX4_comesAll_9 : decode cX4_comesAll 9 = .ok (.iaload, 1) := dk_46 (dk_at dksX4_comesAll_0 9 rfl rfl)
theorem dX4_comesAll_10 : decode cX4_comesAll 10 = .ok (.lookupswitch 141 #[(99, 81), (103, 50), (104, 62), (112, 56), (116, 129)], 50) := by decide +kernel
theorem dX4_comesAll_60 : decode cX4_comesAll 60 = .ok (.aload_n 0, 1) := dk_42 (dk_at dksX4_comesAll_2 0 rfl rfl)
theorem dX4_comesAll_61 : decode cX4_comesAll 61 = .ok (.iload_n 2, 1) := dk_28 (dk_at dksX4_comesAll_2 1 rfl rfl)
theorem dX4_comesAll_62 : decode cX4_comesAll 62 = .ok (.invokevirtual 235, 3) := dk_182 0 235 (dk_at dksX4_comesAll_2 2 rfl rfl)
theorem dX4_comesAll_65 : decode cX4_comesAll 65 = .ok (.ireturn, 1) := dk_172 (dk_at dksX4_comesAll_2 5 rfl rfl)
theorem dX4_comesAll_66 : decode cX4_comesAll 66 = .ok (.aload_n 0, 1) := dk_42 (dk_at dksX4_comesAll_2 6 rfl rfl)
theorem dX4_comesAll_67 : decode cX4_comesAll 67 = .ok (.iload_n 2, 1) := dk_28 (dk_at dksX4_comesAll_2 7 rfl rfl)
theorem dX4_comesAll_68 : decode cX4_comesAll 68 = .ok (.invokevirtual 238, 3) := dk_182 0 238 (dk_at dksX4_comesAll_2 8 rfl rfl)
theorem dX4_comesAll_71 : decode cX4_comesAll 71 = .ok (.ireturn, 1) := dk_172 (dk_at dksX4_comesAll_2 11 rfl rfl)
theorem dX4_comesAll_72 : decode cX4_comesAll 72 = .ok (.aload_n 0, 1) := dk_42 (dk_at dksX4_comesAll_2 12 rfl rfl)
theorem dX4_comesAll_73 : decode cX4_comesAll 73 = .ok (.aload_n 0, 1) := dk_42 (dk_at dksX4_comesAll_2 13 rfl rfl)
theorem dX4_comesAll_74 : decode cX4_comesAll 74 = .ok (.getfield 77, 3) := dk_180 0 77 (dk_at dksX4_comesAll_2 14 rfl rfl)
theorem dX4_comesAll_77 : decode cX4_comesAll 77 = .ok (.iload_n 2, 1) := dk_28 (dk_at dksX4_comesAll_2 17 rfl rfl)
theorem dX4_comesAll_78 : decode cX4_comesAll 78 = .ok (.iaload, 1) := dk_46 (dk_at dksX4_comesAll_2 18 rfl rfl)
theorem dX4_comesAll_79 : decode cX4_comesAll 79 = .ok (.aload_n 0, 1) := dk_42 (dk_at dksX4_comesAll_2 19 rfl rfl)
theorem dX4_comesAll_80 : decode cX4_comesAll 80 = .ok (.getfield 77, 3) := dk_180 0 77 (dk_at dksX4_comesAll_2 20 rfl rfl)
theorem dX4_comesAll_83 : decode cX4_comesAll 83 = .ok (.iload_n 2, 1) := dk_28 (dk_at dksX4_comesAll_2 23 rfl rfl)
theorem dX4_comesAll_84 : decode cX4_comesAll 84 = .ok (.iconst 1, 1) := dk_4 (dk_at dksX4_comesAll_3 0 rfl rfl)
theorem dX4_comesAll_85 : decode cX4_comesAll 85 = .ok (.iadd, 1) := dk_96 (dk_at dksX4_comesAll_3 1 rfl rfl)
theorem dX4_comesAll_86 : decode cX4_comesAll 86 = .ok (.iaload, 1) := dk_46 (dk_at dksX4_comesAll_3 2 rfl rfl)
theorem dX4_comesAll_87 : decode cX4_comesAll 87 = .ok (.invokevirtual 241, 3) := dk_182 0 241 (dk_at dksX4_comesAll_3 3 rfl rfl)
theorem dX4_comesAll_90 : decode cX4_comesAll 90 = .ok (.ireturn, 1) := dk_172 (dk_at dksX4_comesAll_3 6 rfl rfl)
theorem dX4_comesAll_91 : decode cX4_comesAll 91 = .ok (.aload_n 0, 1) := dk_42 (dk_at dksX4_comesAll_3 7 rfl rfl)
theorem dX4_comesAll_92 : decode cX4_comesAll 92 = .ok (.aload_n 0, 1) := dk_42 (dk_at dksX4_comesAll_3 8 rfl rfl)
theorem dX4_comesAll_93 : decode cX4_comesAll 93 = .ok (.getfield 77, 3) := dk_180 0 77 (dk_at dksX4_comesAll_3 9 rfl rfl)
theorem dX4_comesAll_96 : decode cX4_comesAll 96 = .ok (.iload_n 2, 1) := dk_28 (dk_at dksX4_comesAll_3 12 rfl rfl)
theorem dX4_comesAll_97 : decode cX4_comesAll 97 = .ok (.iaload, 1) := dk_46 (dk_at dksX4_comesAll_3 13 rfl rfl)
theorem dX4_comesAll_98 : decode cX4_comesAll 98 = .ok (.invokevirtual 228, 3) := dk_182 0 228 (dk_at dksX4_comesAll_3 14 rfl rfl)
theorem dX4_comesAll_101 : decode cX4_comesAll 101 = .ok (.ifCond .eq 27, 3) := dk_153 0 27 (dk_at dksX4_comesAll_3 17 rfl rfl)
theorem dX4_comesAll_104 : decode cX4_comesAll 104 = .ok (.aload_n 0, 1) := dk_42 (dk_at dksX4_comesAll_3 20 rfl rfl)
theorem dX4_comesAll_105 : decode cX4_comesAll 105 = .ok (.getfield 59, 3) := dk_180 0 59 (dk_at dksX4_comesAll_3 21 rfl rfl)
theorem dX4_comesAll_108 : decode cX4_comesAll 108 = .ok (.aload_n 0, 1) := dk_42 (dk_at dksX4_comesAll_4 0 rfl rfl)
theorem dX4_comesAll_109 : decode cX4_comesAll 109 = .ok (.getfield 77, 3) := dk_180 0 77 (dk_at dksX4_comesAll_4 1 rfl rfl)
theorem dX4_comesAll_112 : decode cX4_comesAll 112 = .ok (.iload_n 2, 1) := dk_28 (dk_at dksX4_comesAll_4 4 rfl rfl)
theorem dX4_comesAll_113 : decode cX4_comesAll 113 = .ok (.iaload, 1) := dk_46 (dk_at dksX4_comesAll_4 5 rfl rfl)
theorem dX4_comesAll_114 : decode cX4_comesAll 114 = .ok (.iconst 1, 1) := dk_4 (dk_at dksX4_comesAll_4 6 rfl rfl)
theorem dX4_comesAll_115 : decode cX4_comesAll 115 = .ok (.aload_n 0, 1) := dk_42 (dk_at dksX4_comesAll_4 7 rfl rfl)
theorem dX4_comesAll_116 : decode cX4_comesAll 116 = .ok (.getfield 59, 3) := dk_180 0 59 (dk_at dksX4_comesAll_4 8 rfl rfl)
theorem dX4_comesAll_119 : decode cX4_comesAll 119 = .ok (.aload_n 0, 1) := dk_42 (dk_at dksX4_comesAll_4 11 rfl rfl)
theorem dX4_comesAll_120 : decode cX4_comesAll 120 = .ok (.getfield 77, 3) := dk_180 0 77 (dk_at dksX4_comesAll_4 12 rfl rfl)
theorem dX4_comesAll_123 : decode cX4_comesAll 123 = .ok (.iload_n 2, 1) := dk_28 (dk_at dksX4_comesAll_4 15 rfl rfl)
theorem dX4_comesAll_124 : decode cX4_comesAll 124 = .ok (.iaload, 1) := dk_46 (dk_at dksX4_comesAll_4 16 rfl rfl)
theorem dX4_comesAll_125 : decode cX4_comesAll 125 = .ok (.iaload, 1) := dk_46 (dk_at dksX4_comesAll_4 17 rfl rfl)
theorem dX4_comesAll_126 : decode cX4_comesAll 126 = .ok (.isub, 1) := dk_100 (dk_at dksX4_comesAll_4 18 rfl rfl)
theorem dX4_comesAll_127 : decode cX4_comesAll 127 = .ok (.iastore, 1) := dk_79 (dk_at dksX4_comesAll_4 19 rfl rfl)
theorem dX4_comesAll_128 : decode cX4_comesAll 128 = .ok (.aload_n 0, 1) := dk_42 (dk_at dksX4_comesAll_4 20 rfl rfl)
theorem dX4_comesAll_129 : decode cX4_comesAll 129 = .ok (.aload_n 0, 1) := dk_42 (dk_at dksX4_comesAll_4 21 rfl rfl)
theorem dX4_comesAll_130 : decode cX4_comesAll 130 = .ok (.getfield 77, 3) := dk_180 0 77 (dk_at dksX4_comesAll_5 0 rfl rfl)
theorem dX4_comesAll_133 : decode cX4_comesAll 133 = .ok (.iload_n 2, 1) := dk_28 (dk_at dksX4_comesAll_5 3 rfl rfl)
theorem dX4_comesAll_134 : decode cX4_comesAll 134 = .ok (.iaload, 1) := dk_46 (dk_at dksX4_comesAll_5 4 rfl rfl)
theorem dX4_comesAll_135 : decode cX4_comesAll 135 = .ok (.invokevirtual 228, 3) := dk_182 0 228 (dk_at dksX4_comesAll_5 5 rfl rfl)
theorem dX4_comesAll_138 : decode cX4_comesAll 138 = .ok (.ireturn, 1) := dk_172 (dk_at dksX4_comesAll_5 8 rfl rfl)
theorem dX4_comesAll_139 : decode cX4_comesAll 139 = .ok (.aload_n 0, 1) := dk_42 (dk_at dksX4_comesAll_5 9 rfl rfl)
theorem dX4_comesAll_140 : decode cX4_comesAll 140 = .ok (.aload_n 0, 1) := dk_42 (dk_at dksX4_comesAll_5 10 rfl rfl)
theorem dX4_comesAll_141 : decode cX4_comesAll 141 = .ok (.getfield 77, 3) := dk_180 0 77 (dk_at dksX4_comesAll_5 11 rfl rfl)
theorem dX4_comesAll_144 : decode cX4_comesAll 144 = .ok (.iload_n 2, 1) := dk_28 (dk_at dksX4_comesAll_5 14 rfl rfl)
theorem dX4_comesAll_145 : decode cX4_comesAll 145 = .ok (.iaload, 1) := dk_46 (dk_at dksX4_comesAll_5 15 rfl rfl)
theorem dX4_comesAll_146 : decode cX4_comesAll 146 = .ok (.putfield 7, 3) := dk_181 0 7 (dk_at dksX4_comesAll_5 16 rfl rfl)
theorem dX4_comesAll_149 : decode cX4_comesAll 149 = .ok (.iconst 1, 1) := dk_4 (dk_at dksX4_comesAll_5 19 rfl rfl)
theorem dX4_comesAll_150 : decode cX4_comesAll 150 = .ok (.ireturn, 1) := dk_172 (dk_at dksX4_comesAll_5 20 rfl rfl)
theorem dX4_comesAll_151 : decode cX4_comesAll 151 = .ok (.aload_n 0, 1) := dk_42 (dk_at dksX4_comesAll_5 21 rfl rfl)
theorem dX4_comesAll_152 : decode cX4_comesAll 152 = .ok (.invokevirtual 193, 3) := dk_182 0 193 (dk_at dksX4_comesAll_6 0 rfl rfl)
theorem dX4_comesAll_155 : decode cX4_comesAll 155 = .ok (.aload_n 0, 1) := dk_42 (dk_at dksX4_comesAll_6 3 rfl rfl)
theorem dX4_comesAll_156 : decode cX4_comesAll 156 = .ok (.getfield 133, 3) := dk_180 0 133 (dk_at dksX4_comesAll_6 4 rfl rfl)
theorem dX4_comesAll_159 : decode cX4_comesAll 159 = .ok (.sipush 999, 3) := dk_17 3 231 (dk_at dksX4_comesAll_6 7 rfl rfl)
theorem dX4_comesAll_162 : decode cX4_comesAll 162 = .ok (.if_icmp .gt 7, 3) := dk_163 0 7 (dk_at dksX4_comesAll_6 10 rfl rfl)
theorem dX4_comesAll_165 : decode cX4_comesAll 165 = .ok (.iconst 1, 1) := dk_4 (dk_at dksX4_comesAll_6 13 rfl rfl)
theorem dX4_comesAll_166 : decode cX4_comesAll 166 = .ok (.goto 4, 3) := dk_167 0 4 (dk_at dksX4_comesAll_6 14 rfl rfl)
theorem dX4_comesAll_169 : decode cX4_comesAll 169 = .ok (.iconst 0, 1) := dk_3 (dk_at dksX4_comesAll_6 17 rfl rfl)
theorem dX4_comesAll_170 : decode cX4_comesAll 170 = .ok (.ireturn, 1) := dk_172 (dk_at dksX4_comesAll_6 18 rfl rfl)
abbrev cX4_glassComes : ByteArray := prog_21_method_34_code
def yX4_glassComes : MethodName := ⟨RX4, "glassComes", "(I)Z"⟩
def dkwX4_glassComes_3 : List UInt8 := [96, 46, 182, 0, 153, 87, 28, 172]
abbrev dktX4_glassComes_3 : List UInt8 := dkwX4_glassComes_3 ++ []
def dkwX4_glassComes_2 : List UInt8 := [27, 46, 42, 180, 0, 77, 27, 4, 96, 46, 42, 180, 0, 77, 27, 5, 96, 46, 42, 180, 0, 77, 27, 6]
abbrev dktX4_glassComes_2 : List UInt8 := dkwX4_glassComes_2 ++ dktX4_glassComes_3
def dkwX4_glassComes_1 : List UInt8 := [42, 180, 0, 105, 16, 12, 162, 0, 7, 4, 167, 0, 4, 3, 61, 28, 153, 0, 38, 42, 42, 180, 0, 77]
abbrev dktX4_glassComes_1 : List UInt8 := dkwX4_glassComes_1 ++ dktX4_glassComes_2
def dkwX4_glassComes_0 : List UInt8 := [42, 180, 0, 77, 27, 46, 16, 8, 162, 0, 29, 42, 180, 0, 77, 27, 6, 96, 46, 16, 6, 162, 0, 16]
abbrev dktX4_glassComes_0 : List UInt8 := dkwX4_glassComes_0 ++ dktX4_glassComes_1
theorem dksX4_glassComes_0 : cX4_glassComes.data.toList.drop 0 = dktX4_glassComes_0 := by decide +kernel
theorem dksX4_glassComes_1 : cX4_glassComes.data.toList.drop 24 = dktX4_glassComes_1 := dk_seg dksX4_glassComes_0 24 rfl rfl
theorem dksX4_glassComes_2 : cX4_glassComes.data.toList.drop 48 = dktX4_glassComes_2 := dk_seg dksX4_glassComes_1 24 rfl rfl
theorem dksX4_glassComes_3 : cX4_glassComes.data.toList.drop 72 = dktX4_glassComes_3 := dk_seg dksX4_glassComes_2 24 rfl rfl
theorem dX4_glassComes_0 : decode cX4_glassComes 0 = .ok (.aload_n 0, 1) := dk_42 (dk_at dksX4_glassComes_0 0 rfl rfl)
theorem dX4_glassComes_1 : decode cX4_glassComes 1 = .ok (.getfield 77, 3) := dk_180 0 77 (dk_at dksX4_glassComes_0 1 rfl rfl)
theorem dX4_glassComes_4 : decode cX4_glassComes 4 = .ok (.iload_n 1, 1) := dk_27 (dk_at dksX4_glassComes_0 4 rfl rfl)
theorem dX4_glassComes_5 : decode cX4_glassComes 5 = .ok (.iaload, 1) := dk_46 (dk_at dksX4_glassComes_0 5 rfl rfl)
theorem dX4_glassComes_6 : decode cX4_glassComes 6 = .ok (.bipush 8, 2) := dk_16 8 (dk_at dksX4_glassComes_0 6 rfl rfl)
theorem dX4_glassComes_8 : decode cX4_glassComes 8 = .ok (.if_icmp .ge 29, 3) := dk_162 0 29 (dk_at dksX4_glassComes_0 8 rfl rfl)
theorem dX4_glassComes_11 : decode cX4_glassComes 11 = .ok (.aload_n 0, 1) := dk_42 (dk_at dksX4_glassComes_0 11 rfl rfl)
theorem dX4_glassComes_12 : decode cX4_glassComes 12 = .ok (.getfield 77, 3) := dk_180 0 77 (dk_at dksX4_glassComes_0 12 rfl rfl)
theorem dX4_glassComes_15 : decode cX4_glassComes 15 = .ok (.iload_n 1, 1) := dk_27 (dk_at dksX4_glassComes_0 15 rfl rfl)
theorem dX4_glassComes_16 : decode cX4_glassComes 16 = .ok (.iconst 3, 1) := dk_6 (dk_at dksX4_glassComes_0 16 rfl rfl)
theorem dX4_glassComes_17 : decode cX4_glassComes 17 = .ok (.iadd, 1) := dk_96 (dk_at dksX4_glassComes_0 17 rfl rfl)
theorem dX4_glassComes_18 : decode cX4_glassComes 18 = .ok (.iaload, 1) := dk_46 (dk_at dksX4_glassComes_0 18 rfl rfl)
theorem dX4_glassComes_19 : decode cX4_glassComes 19 = .ok (.bipush 6, 2) := dk_16 6 (dk_at dksX4_glassComes_0 19 rfl rfl)
theorem dX4_glassComes_21 : decode cX4_glassComes 21 = .ok (.if_icmp .ge 16, 3) := dk_162 0 16 (dk_at dksX4_glassComes_0 21 rfl rfl)
theorem dX4_glassComes_24 : decode cX4_glassComes 24 = .ok (.aload_n 0, 1) := dk_42 (dk_at dksX4_glassComes_1 0 rfl rfl)
theorem dX4_glassComes_25 : decode cX4_glassComes 25 = .ok (.getfield 105, 3) := dk_180 0 105 (dk_at dksX4_glassComes_1 1 rfl rfl)
theorem dX4_glassComes_28 : decode cX4_glassComes 28 = .ok (.bipush 12, 2) := dk_16 12 (dk_at dksX4_glassComes_1 4 rfl rfl)
theorem dX4_glassComes_30 : decode cX4_glassComes 30 = .ok (.if_icmp .ge 7, 3) := dk_162 0 7 (dk_at dksX4_glassComes_1 6 rfl rfl)
theorem dX4_glassComes_33 : decode cX4_glassComes 33 = .ok (.iconst 1, 1) := dk_4 (dk_at dksX4_glassComes_1 9 rfl rfl)
theorem dX4_glassComes_34 : decode cX4_glassComes 34 = .ok (.goto 4, 3) := dk_167 0 4 (dk_at dksX4_glassComes_1 10 rfl rfl)
theorem dX4_glassComes_37 : decode cX4_glassComes 37 = .ok (.iconst 0, 1) := dk_3 (dk_at dksX4_glassComes_1 13 rfl rfl)
theorem dX4_glassComes_38 : decode cX4_glassComes 38 = .ok (.istore_n 2, 1) := dk_61 (dk_at dksX4_glassComes_1 14 rfl rfl)
theorem dX4_glassComes_39 : decode cX4_glassComes 39 = .ok (.iload_n 2, 1) := dk_28 (dk_at dksX4_glassComes_1 15 rfl rfl)
theorem dX4_glassComes_40 : decode cX4_glassComes 40 = .ok (.ifCond .eq 38, 3) := dk_153 0 38 (dk_at dksX4_glassComes_1 16 rfl rfl)
theorem dX4_glassComes_43 : decode cX4_glassComes 43 = .ok (.aload_n 0, 1) := dk_42 (dk_at dksX4_glassComes_1 19 rfl rfl)
theorem dX4_glassComes_44 : decode cX4_glassComes 44 = .ok (.aload_n 0, 1) := dk_42 (dk_at dksX4_glassComes_1 20 rfl rfl)
theorem dX4_glassComes_45 : decode cX4_glassComes 45 = .ok (.getfield 77, 3) := dk_180 0 77 (dk_at dksX4_glassComes_1 21 rfl rfl)
theorem dX4_glassComes_48 : decode cX4_glassComes 48 = .ok (.iload_n 1, 1) := dk_27 (dk_at dksX4_glassComes_2 0 rfl rfl)
theorem dX4_glassComes_49 : decode cX4_glassComes 49 = .ok (.iaload, 1) := dk_46 (dk_at dksX4_glassComes_2 1 rfl rfl)
theorem dX4_glassComes_50 : decode cX4_glassComes 50 = .ok (.aload_n 0, 1) := dk_42 (dk_at dksX4_glassComes_2 2 rfl rfl)
theorem dX4_glassComes_51 : decode cX4_glassComes 51 = .ok (.getfield 77, 3) := dk_180 0 77 (dk_at dksX4_glassComes_2 3 rfl rfl)
theorem dX4_glassComes_54 : decode cX4_glassComes 54 = .ok (.iload_n 1, 1) := dk_27 (dk_at dksX4_glassComes_2 6 rfl rfl)
theorem dX4_glassComes_55 : decode cX4_glassComes 55 = .ok (.iconst 1, 1) := dk_4 (dk_at dksX4_glassComes_2 7 rfl rfl)
theorem dX4_glassComes_56 : decode cX4_glassComes 56 = .ok (.iadd, 1) := dk_96 (dk_at dksX4_glassComes_2 8 rfl rfl)
theorem dX4_glassComes_57 : decode cX4_glassComes 57 = .ok (.iaload, 1) := dk_46 (dk_at dksX4_glassComes_2 9 rfl rfl)
theorem dX4_glassComes_58 : decode cX4_glassComes 58 = .ok (.aload_n 0, 1) := dk_42 (dk_at dksX4_glassComes_2 10 rfl rfl)
theorem dX4_glassComes_59 : decode cX4_glassComes 59 = .ok (.getfield 77, 3) := dk_180 0 77 (dk_at dksX4_glassComes_2 11 rfl rfl)
theorem dX4_glassComes_62 : decode cX4_glassComes 62 = .ok (.iload_n 1, 1) := dk_27 (dk_at dksX4_glassComes_2 14 rfl rfl)
theorem dX4_glassComes_63 : decode cX4_glassComes 63 = .ok (.iconst 2, 1) := dk_5 (dk_at dksX4_glassComes_2 15 rfl rfl)
theorem dX4_glassComes_64 : decode cX4_glassComes 64 = .ok (.iadd, 1) := dk_96 (dk_at dksX4_glassComes_2 16 rfl rfl)
theorem dX4_glassComes_65 : decode cX4_glassComes 65 = .ok (.iaload, 1) := dk_46 (dk_at dksX4_glassComes_2 17 rfl rfl)
theorem dX4_glassComes_66 : decode cX4_glassComes 66 = .ok (.aload_n 0, 1) := dk_42 (dk_at dksX4_glassComes_2 18 rfl rfl)
theorem dX4_glassComes_67 : decode cX4_glassComes 67 = .ok (.getfield 77, 3) := dk_180 0 77 (dk_at dksX4_glassComes_2 19 rfl rfl)
theorem dX4_glassComes_70 : decode cX4_glassComes 70 = .ok (.iload_n 1, 1) := dk_27 (dk_at dksX4_glassComes_2 22 rfl rfl)
theorem dX4_glassComes_71 : decode cX4_glassComes 71 = .ok (.iconst 3, 1) := dk_6 (dk_at dksX4_glassComes_2 23 rfl rfl)
theorem dX4_glassComes_72 : decode cX4_glassComes 72 = .ok (.iadd, 1) := dk_96 (dk_at dksX4_glassComes_3 0 rfl rfl)
theorem dX4_glassComes_73 : decode cX4_glassComes 73 = .ok (.iaload, 1) := dk_46 (dk_at dksX4_glassComes_3 1 rfl rfl)
theorem dX4_glassComes_74 : decode cX4_glassComes 74 = .ok (.invokevirtual 153, 3) := dk_182 0 153 (dk_at dksX4_glassComes_3 2 rfl rfl)
theorem dX4_glassComes_77 : decode cX4_glassComes 77 = .ok (.pop, 1) := dk_87 (dk_at dksX4_glassComes_3 5 rfl rfl)
theorem dX4_glassComes_78 : decode cX4_glassComes 78 = .ok (.iload_n 2, 1) := dk_28 (dk_at dksX4_glassComes_3 6 rfl rfl)
theorem dX4_glassComes_79 : decode cX4_glassComes 79 = .ok (.ireturn, 1) := dk_172 (dk_at dksX4_glassComes_3 7 rfl rfl)
abbrev cX4_bring : ByteArray := prog_21_method_17_code
def yX4_bring : MethodName := ⟨RX4, "bring", "(IIII)I"⟩
def dkwX4_bring_3 : List UInt8 := [180, 0, 32, 21, 5, 3, 79, 42, 89, 180, 0, 105, 4, 96, 181, 0, 105, 21, 5, 172]
abbrev dktX4_bring_3 : List UInt8 := dkwX4_bring_3 ++ []
def dkwX4_bring_2 : List UInt8 := [16, 10, 162, 0, 10, 42, 180, 0, 133, 167, 0, 5, 16, 252, 79, 42, 180, 0, 29, 21, 5, 3, 79, 42]
abbrev dktX4_bring_2 : List UInt8 := dkwX4_bring_2 ++ dktX4_bring_3
def dkwX4_bring_1 : List UInt8 := [180, 0, 20, 21, 5, 29, 79, 42, 180, 0, 23, 21, 5, 21, 4, 79, 42, 180, 0, 26, 21, 5, 21, 4]
abbrev dktX4_bring_1 : List UInt8 := dkwX4_bring_1 ++ dktX4_bring_2
def dkwX4_bring_0 : List UInt8 := [42, 180, 0, 105, 54, 5, 42, 180, 0, 13, 21, 5, 27, 79, 42, 180, 0, 17, 21, 5, 28, 79, 42]
abbrev dktX4_bring_0 : List UInt8 := dkwX4_bring_0 ++ dktX4_bring_1
theorem dksX4_bring_0 : cX4_bring.data.toList.drop 0 = dktX4_bring_0 := by decide +kernel
theorem dksX4_bring_1 : cX4_bring.data.toList.drop 23 = dktX4_bring_1 := dk_seg dksX4_bring_0 23 rfl rfl
theorem dksX4_bring_2 : cX4_bring.data.toList.drop 47 = dktX4_bring_2 := dk_seg dksX4_bring_1 24 rfl rfl
theorem dksX4_bring_3 : cX4_bring.data.toList.drop 71 = dktX4_bring_3 := dk_seg dksX4_bring_2 24 rfl rfl
theorem dX4_bring_0 : decode cX4_bring 0 = .ok (.aload_n 0, 1) := dk_42 (dk_at dksX4_bring_0 0 rfl rfl)
theorem dX4_bring_1 : decode cX4_bring 1 = .ok (.getfield 105, 3) := dk_180 0 105 (dk_at dksX4_bring_0 1 rfl rfl)
theorem dX4_bring_4 : decode cX4_bring 4 = .ok (.istore 5, 2) := dk_54 5 (dk_at dksX4_bring_0 4 rfl rfl)
theorem dX4_bring_6 : decode cX4_bring 6 = .ok (.aload_n 0, 1) := dk_42 (dk_at dksX4_bring_0 6 rfl rfl)
theorem dX4_bring_7 : decode cX4_bring 7 = .ok (.getfield 13, 3) := dk_180 0 13 (dk_at dksX4_bring_0 7 rfl rfl)
theorem dX4_bring_10 : decode cX4_bring 10 = .ok (.iload 5, 2) := dk_21 5 (dk_at dksX4_bring_0 10 rfl rfl)
theorem dX4_bring_12 : decode cX4_bring 12 = .ok (.iload_n 1, 1) := dk_27 (dk_at dksX4_bring_0 12 rfl rfl)
theorem dX4_bring_13 : decode cX4_bring 13 = .ok (.iastore, 1) := dk_79 (dk_at dksX4_bring_0 13 rfl rfl)
theorem dX4_bring_14 : decode cX4_bring 14 = .ok (.aload_n 0, 1) := dk_42 (dk_at dksX4_bring_0 14 rfl rfl)
theorem dX4_bring_15 : decode cX4_bring 15 = .ok (.getfield 17, 3) := dk_180 0 17 (dk_at dksX4_bring_0 15 rfl rfl)
theorem dX4_bring_18 : decode cX4_bring 18 = .ok (.iload 5, 2) := dk_21 5 (dk_at dksX4_bring_0 18 rfl rfl)
theorem dX4_bring_20 : decode cX4_bring 20 = .ok (.iload_n 2, 1) := dk_28 (dk_at dksX4_bring_0 20 rfl rfl)
theorem dX4_bring_21 : decode cX4_bring 21 = .ok (.iastore, 1) := dk_79 (dk_at dksX4_bring_0 21 rfl rfl)
theorem dX4_bring_22 : decode cX4_bring 22 = .ok (.aload_n 0, 1) := dk_42 (dk_at dksX4_bring_0 22 rfl rfl)
theorem dX4_bring_23 : decode cX4_bring 23 = .ok (.getfield 20, 3) := dk_180 0 20 (dk_at dksX4_bring_1 0 rfl rfl)
theorem dX4_bring_26 : decode cX4_bring 26 = .ok (.iload 5, 2) := dk_21 5 (dk_at dksX4_bring_1 3 rfl rfl)
theorem dX4_bring_28 : decode cX4_bring 28 = .ok (.iload_n 3, 1) := dk_29 (dk_at dksX4_bring_1 5 rfl rfl)
theorem dX4_bring_29 : decode cX4_bring 29 = .ok (.iastore, 1) := dk_79 (dk_at dksX4_bring_1 6 rfl rfl)
theorem dX4_bring_30 : decode cX4_bring 30 = .ok (.aload_n 0, 1) := dk_42 (dk_at dksX4_bring_1 7 rfl rfl)
theorem dX4_bring_31 : decode cX4_bring 31 = .ok (.getfield 23, 3) := dk_180 0 23 (dk_at dksX4_bring_1 8 rfl rfl)
theorem dX4_bring_34 : decode cX4_bring 34 = .ok (.iload 5, 2) := dk_21 5 (dk_at dksX4_bring_1 11 rfl rfl)
theorem dX4_bring_36 : decode cX4_bring 36 = .ok (.iload 4, 2) := dk_21 4 (dk_at dksX4_bring_1 13 rfl rfl)
theorem dX4_bring_38 : decode cX4_bring 38 = .ok (.iastore, 1) := dk_79 (dk_at dksX4_bring_1 15 rfl rfl)
theorem dX4_bring_39 : decode cX4_bring 39 = .ok (.aload_n 0, 1) := dk_42 (dk_at dksX4_bring_1 16 rfl rfl)
theorem dX4_bring_40 : decode cX4_bring 40 = .ok (.getfield 26, 3) := dk_180 0 26 (dk_at dksX4_bring_1 17 rfl rfl)
theorem dX4_bring_43 : decode cX4_bring 43 = .ok (.iload 5, 2) := dk_21 5 (dk_at dksX4_bring_1 20 rfl rfl)
theorem dX4_bring_45 : decode cX4_bring 45 = .ok (.iload 4, 2) := dk_21 4 (dk_at dksX4_bring_1 22 rfl rfl)
theorem dX4_bring_47 : decode cX4_bring 47 = .ok (.bipush 10, 2) := dk_16 10 (dk_at dksX4_bring_2 0 rfl rfl)
theorem dX4_bring_49 : decode cX4_bring 49 = .ok (.if_icmp .ge 10, 3) := dk_162 0 10 (dk_at dksX4_bring_2 2 rfl rfl)
theorem dX4_bring_52 : decode cX4_bring 52 = .ok (.aload_n 0, 1) := dk_42 (dk_at dksX4_bring_2 5 rfl rfl)
theorem dX4_bring_53 : decode cX4_bring 53 = .ok (.getfield 133, 3) := dk_180 0 133 (dk_at dksX4_bring_2 6 rfl rfl)
theorem dX4_bring_56 : decode cX4_bring 56 = .ok (.goto 5, 3) := dk_167 0 5 (dk_at dksX4_bring_2 9 rfl rfl)
theorem dX4_bring_59 : decode cX4_bring 59 = .ok (.bipush (-4), 2) := dk_16 252 (dk_at dksX4_bring_2 12 rfl rfl)
theorem dX4_bring_61 : decode cX4_bring 61 = .ok (.iastore, 1) := dk_79 (dk_at dksX4_bring_2 14 rfl rfl)
theorem dX4_bring_62 : decode cX4_bring 62 = .ok (.aload_n 0, 1) := dk_42 (dk_at dksX4_bring_2 15 rfl rfl)
theorem dX4_bring_63 : decode cX4_bring 63 = .ok (.getfield 29, 3) := dk_180 0 29 (dk_at dksX4_bring_2 16 rfl rfl)
theorem dX4_bring_66 : decode cX4_bring 66 = .ok (.iload 5, 2) := dk_21 5 (dk_at dksX4_bring_2 19 rfl rfl)
theorem dX4_bring_68 : decode cX4_bring 68 = .ok (.iconst 0, 1) := dk_3 (dk_at dksX4_bring_2 21 rfl rfl)
theorem dX4_bring_69 : decode cX4_bring 69 = .ok (.iastore, 1) := dk_79 (dk_at dksX4_bring_2 22 rfl rfl)
theorem dX4_bring_70 : decode cX4_bring 70 = .ok (.aload_n 0, 1) := dk_42 (dk_at dksX4_bring_2 23 rfl rfl)
theorem dX4_bring_71 : decode cX4_bring 71 = .ok (.getfield 32, 3) := dk_180 0 32 (dk_at dksX4_bring_3 0 rfl rfl)
theorem dX4_bring_74 : decode cX4_bring 74 = .ok (.iload 5, 2) := dk_21 5 (dk_at dksX4_bring_3 3 rfl rfl)
theorem dX4_bring_76 : decode cX4_bring 76 = .ok (.iconst 0, 1) := dk_3 (dk_at dksX4_bring_3 5 rfl rfl)
theorem dX4_bring_77 : decode cX4_bring 77 = .ok (.iastore, 1) := dk_79 (dk_at dksX4_bring_3 6 rfl rfl)
theorem dX4_bring_78 : decode cX4_bring 78 = .ok (.aload_n 0, 1) := dk_42 (dk_at dksX4_bring_3 7 rfl rfl)
theorem dX4_bring_79 : decode cX4_bring 79 = .ok (.dup, 1) := dk_89 (dk_at dksX4_bring_3 8 rfl rfl)
theorem dX4_bring_80 : decode cX4_bring 80 = .ok (.getfield 105, 3) := dk_180 0 105 (dk_at dksX4_bring_3 9 rfl rfl)
theorem dX4_bring_83 : decode cX4_bring 83 = .ok (.iconst 1, 1) := dk_4 (dk_at dksX4_bring_3 12 rfl rfl)
theorem dX4_bring_84 : decode cX4_bring 84 = .ok (.iadd, 1) := dk_96 (dk_at dksX4_bring_3 13 rfl rfl)
theorem dX4_bring_85 : decode cX4_bring 85 = .ok (.putfield 105, 3) := dk_181 0 105 (dk_at dksX4_bring_3 14 rfl rfl)
theorem dX4_bring_88 : decode cX4_bring 88 = .ok (.iload 5, 2) := dk_21 5 (dk_at dksX4_bring_3 17 rfl rfl)
theorem dX4_bring_90 : decode cX4_bring 90 = .ok (.ireturn, 1) := dk_172 (dk_at dksX4_bring_3 19 rfl rfl)
abbrev cX4_guestComes : ByteArray := prog_21_method_35_code
def yX4_guestComes : MethodName := ⟨RX4, "guestComes", "(I)Z"⟩
def dkwX4_guestComes_6 : List UInt8 := [79, 42, 89, 180, 0, 112, 4, 96, 181, 0, 112, 4, 172]
abbrev dktX4_guestComes_6 : List UInt8 := dkwX4_guestComes_6 ++ []
def dkwX4_guestComes_5 : List UInt8 := [16, 252, 79, 42, 180, 0, 53, 28, 16, 252, 79, 42, 180, 0, 56, 28, 3, 79, 42, 180, 0, 59, 28, 3]
abbrev dktX4_guestComes_5 : List UInt8 := dkwX4_guestComes_5 ++ dktX4_guestComes_6
def dkwX4_guestComes_4 : List UInt8 := [27, 6, 96, 46, 79, 42, 180, 0, 47, 28, 42, 180, 0, 77, 27, 7, 96, 46, 79, 42, 180, 0, 50, 28]
abbrev dktX4_guestComes_4 : List UInt8 := dkwX4_guestComes_4 ++ dktX4_guestComes_5
def dkwX4_guestComes_3 : List UInt8 := [79, 42, 180, 0, 41, 28, 42, 180, 0, 77, 27, 5, 96, 46, 79, 42, 180, 0, 44, 28, 42, 180, 0, 77]
abbrev dktX4_guestComes_3 : List UInt8 := dkwX4_guestComes_3 ++ dktX4_guestComes_4
def dkwX4_guestComes_2 : List UInt8 := [180, 0, 35, 28, 42, 180, 0, 77, 27, 46, 79, 42, 180, 0, 38, 28, 42, 180, 0, 77, 27, 4, 96, 46]
abbrev dktX4_guestComes_2 : List UInt8 := dkwX4_guestComes_2 ++ dktX4_guestComes_3
def dkwX4_guestComes_1 : List UInt8 := [153, 0, 21, 42, 180, 0, 77, 27, 7, 96, 46, 8, 163, 0, 9, 28, 16, 6, 160, 0, 5, 3, 172, 42]
abbrev dktX4_guestComes_1 : List UInt8 := dkwX4_guestComes_1 ++ dktX4_guestComes_2
def dkwX4_guestComes_0 : List UInt8 := [42, 180, 0, 112, 61, 42, 180, 0, 77, 27, 46, 153, 0, 32, 42, 180, 0, 77, 27, 4, 96, 46]
abbrev dktX4_guestComes_0 : List UInt8 := dkwX4_guestComes_0 ++ dktX4_guestComes_1
theorem dksX4_guestComes_0 : cX4_guestComes.data.toList.drop 0 = dktX4_guestComes_0 := by decide +kernel
theorem dksX4_guestComes_1 : cX4_guestComes.data.toList.drop 22 = dktX4_guestComes_1 := dk_seg dksX4_guestComes_0 22 rfl rfl
theorem dksX4_guestComes_2 : cX4_guestComes.data.toList.drop 46 = dktX4_guestComes_2 := dk_seg dksX4_guestComes_1 24 rfl rfl
theorem dksX4_guestComes_3 : cX4_guestComes.data.toList.drop 70 = dktX4_guestComes_3 := dk_seg dksX4_guestComes_2 24 rfl rfl
theorem dksX4_guestComes_4 : cX4_guestComes.data.toList.drop 94 = dktX4_guestComes_4 := dk_seg dksX4_guestComes_3 24 rfl rfl
theorem dksX4_guestComes_5 : cX4_guestComes.data.toList.drop 118 = dktX4_guestComes_5 := dk_seg dksX4_guestComes_4 24 rfl rfl
theorem dksX4_guestComes_6 : cX4_guestComes.data.toList.drop 142 = dktX4_guestComes_6 := dk_seg dksX4_guestComes_5 24 rfl rfl
theorem dX4_guestComes_0 : decode cX4_guestComes 0 = .ok (.aload_n 0, 1) := dk_42 (dk_at dksX4_guestComes_0 0 rfl rfl)
theorem dX4_guestComes_1 : decode cX4_guestComes 1 = .ok (.getfield 112, 3) := dk_180 0 112 (dk_at dksX4_guestComes_0 1 rfl rfl)
theorem dX4_guestComes_4 : decode cX4_guestComes 4 = .ok (.istore_n 2, 1) := dk_61 (dk_at dksX4_guestComes_0 4 rfl rfl)
theorem dX4_guestComes_5 : decode cX4_guestComes 5 = .ok (.aload_n 0, 1) := dk_42 (dk_at dksX4_guestComes_0 5 rfl rfl)
theorem dX4_guestComes_6 : decode cX4_guestComes 6 = .ok (.getfield 77, 3) := dk_180 0 77 (dk_at dksX4_guestComes_0 6 rfl rfl)
theorem dX4_guestComes_9 : decode cX4_guestComes 9 = .ok (.iload_n 1, 1) := dk_27 (dk_at dksX4_guestComes_0 9 rfl rfl)
theorem dX4_guestComes_10 : decode cX4_guestComes 10 = .ok (.iaload, 1) := dk_46 (dk_at dksX4_guestComes_0 10 rfl rfl)
theorem dX4_guestComes_11 : decode cX4_guestComes 11 = .ok (.ifCond .eq 32, 3) := dk_153 0 32 (dk_at dksX4_guestComes_0 11 rfl rfl)
theorem dX4_guestComes_14 : decode cX4_guestComes 14 = .ok (.aload_n 0, 1) := dk_42 (dk_at dksX4_guestComes_0 14 rfl rfl)
theorem dX4_guestComes_15 : decode cX4_guestComes 15 = .ok (.getfield 77, 3) := dk_180 0 77 (dk_at dksX4_guestComes_0 15 rfl rfl)
theorem dX4_guestComes_18 : decode cX4_guestComes 18 = .ok (.iload_n 1, 1) := dk_27 (dk_at dksX4_guestComes_0 18 rfl rfl)
theorem dX4_guestComes_19 : decode cX4_guestComes 19 = .ok (.iconst 1, 1) := dk_4 (dk_at dksX4_guestComes_0 19 rfl rfl)
theorem dX4_guestComes_20 : decode cX4_guestComes 20 = .ok (.iadd, 1) := dk_96 (dk_at dksX4_guestComes_0 20 rfl rfl)
theorem dX4_guestComes_21 : decode cX4_guestComes 21 = .ok (.iaload, 1) := dk_46 (dk_at dksX4_guestComes_0 21 rfl rfl)
theorem dX4_guestComes_22 : decode cX4_guestComes 22 = .ok (.ifCond .eq 21, 3) := dk_153 0 21 (dk_at dksX4_guestComes_1 0 rfl rfl)
theorem dX4_guestComes_25 : decode cX4_guestComes 25 = .ok (.aload_n 0, 1) := dk_42 (dk_at dksX4_guestComes_1 3 rfl rfl)
theorem dX4_guestComes_26 : decode cX4_guestComes 26 = .ok (.getfield 77, 3) := dk_180 0 77 (dk_at dksX4_guestComes_1 4 rfl rfl)
theorem dX4_guestComes_29 : decode cX4_guestComes 29 = .ok (.iload_n 1, 1) := dk_27 (dk_at dksX4_guestComes_1 7 rfl rfl)
theorem dX4_guestComes_30 : decode cX4_guestComes 30 = .ok (.iconst 4, 1) := dk_7 (dk_at dksX4_guestComes_1 8 rfl rfl)
theorem dX4_guestComes_31 : decode cX4_guestComes 31 = .ok (.iadd, 1) := dk_96 (dk_at dksX4_guestComes_1 9 rfl rfl)
theorem dX4_guestComes_32 : decode cX4_guestComes 32 = .ok (.iaload, 1) := dk_46 (dk_at dksX4_guestComes_1 10 rfl rfl)
theorem dX4_guestComes_33 : decode cX4_guestComes 33 = .ok (.iconst 5, 1) := dk_8 (dk_at dksX4_guestComes_1 11 rfl rfl)
theorem dX4_guestComes_34 : decode cX4_guestComes 34 = .ok (.if_icmp .gt 9, 3) := dk_163 0 9 (dk_at dksX4_guestComes_1 12 rfl rfl)
theorem dX4_guestComes_37 : decode cX4_guestComes 37 = .ok (.iload_n 2, 1) := dk_28 (dk_at dksX4_guestComes_1 15 rfl rfl)
theorem dX4_guestComes_38 : decode cX4_guestComes 38 = .ok (.bipush 6, 2) := dk_16 6 (dk_at dksX4_guestComes_1 16 rfl rfl)
theorem dX4_guestComes_40 : decode cX4_guestComes 40 = .ok (.if_icmp .ne 5, 3) := dk_160 0 5 (dk_at dksX4_guestComes_1 18 rfl rfl)
theorem dX4_guestComes_43 : decode cX4_guestComes 43 = .ok (.iconst 0, 1) := dk_3 (dk_at dksX4_guestComes_1 21 rfl rfl)
theorem dX4_guestComes_44 : decode cX4_guestComes 44 = .ok (.ireturn, 1) := dk_172 (dk_at dksX4_guestComes_1 22 rfl rfl)
theorem dX4_guestComes_45 : decode cX4_guestComes 45 = .ok (.aload_n 0, 1) := dk_42 (dk_at dksX4_guestComes_1 23 rfl rfl)
theorem dX4_guestComes_46 : decode cX4_guestComes 46 = .ok (.getfield 35, 3) := dk_180 0 35 (dk_at dksX4_guestComes_2 0 rfl rfl)
theorem dX4_guestComes_49 : decode cX4_guestComes 49 = .ok (.iload_n 2, 1) := dk_28 (dk_at dksX4_guestComes_2 3 rfl rfl)
theorem dX4_guestComes_50 : decode cX4_guestComes 50 = .ok (.aload_n 0, 1) := dk_42 (dk_at dksX4_guestComes_2 4 rfl rfl)
theorem dX4_guestComes_51 : decode cX4_guestComes 51 = .ok (.getfield 77, 3) := dk_180 0 77 (dk_at dksX4_guestComes_2 5 rfl rfl)
theorem dX4_guestComes_54 : decode cX4_guestComes 54 = .ok (.iload_n 1, 1) := dk_27 (dk_at dksX4_guestComes_2 8 rfl rfl)
theorem dX4_guestComes_55 : decode cX4_guestComes 55 = .ok (.iaload, 1) := dk_46 (dk_at dksX4_guestComes_2 9 rfl rfl)
theorem dX4_guestComes_56 : decode cX4_guestComes 56 = .ok (.iastore, 1) := dk_79 (dk_at dksX4_guestComes_2 10 rfl rfl)
theorem dX4_guestComes_57 : decode cX4_guestComes 57 = .ok (.aload_n 0, 1) := dk_42 (dk_at dksX4_guestComes_2 11 rfl rfl)
theorem dX4_guestComes_58 : decode cX4_guestComes 58 = .ok (.getfield 38, 3) := dk_180 0 38 (dk_at dksX4_guestComes_2 12 rfl rfl)
theorem dX4_guestComes_61 : decode cX4_guestComes 61 = .ok (.iload_n 2, 1) := dk_28 (dk_at dksX4_guestComes_2 15 rfl rfl)
theorem dX4_guestComes_62 : decode cX4_guestComes 62 = .ok (.aload_n 0, 1) := dk_42 (dk_at dksX4_guestComes_2 16 rfl rfl)
theorem dX4_guestComes_63 : decode cX4_guestComes 63 = .ok (.getfield 77, 3) := dk_180 0 77 (dk_at dksX4_guestComes_2 17 rfl rfl)
theorem dX4_guestComes_66 : decode cX4_guestComes 66 = .ok (.iload_n 1, 1) := dk_27 (dk_at dksX4_guestComes_2 20 rfl rfl)
theorem dX4_guestComes_67 : decode cX4_guestComes 67 = .ok (.iconst 1, 1) := dk_4 (dk_at dksX4_guestComes_2 21 rfl rfl)
theorem dX4_guestComes_68 : decode cX4_guestComes 68 = .ok (.iadd, 1) := dk_96 (dk_at dksX4_guestComes_2 22 rfl rfl)
theorem dX4_guestComes_69 : decode cX4_guestComes 69 = .ok (.iaload, 1) := dk_46 (dk_at dksX4_guestComes_2 23 rfl rfl)
theorem dX4_guestComes_70 : decode cX4_guestComes 70 = .ok (.iastore, 1) := dk_79 (dk_at dksX4_guestComes_3 0 rfl rfl)
theorem dX4_guestComes_71 : decode cX4_guestComes 71 = .ok (.aload_n 0, 1) := dk_42 (dk_at dksX4_guestComes_3 1 rfl rfl)
theorem dX4_guestComes_72 : decode cX4_guestComes 72 = .ok (.getfield 41, 3) := dk_180 0 41 (dk_at dksX4_guestComes_3 2 rfl rfl)
theorem dX4_guestComes_75 : decode cX4_guestComes 75 = .ok (.iload_n 2, 1) := dk_28 (dk_at dksX4_guestComes_3 5 rfl rfl)
theorem dX4_guestComes_76 : decode cX4_guestComes 76 = .ok (.aload_n 0, 1) := dk_42 (dk_at dksX4_guestComes_3 6 rfl rfl)
theorem dX4_guestComes_77 : decode cX4_guestComes 77 = .ok (.getfield 77, 3) := dk_180 0 77 (dk_at dksX4_guestComes_3 7 rfl rfl)
theorem dX4_guestComes_80 : decode cX4_guestComes 80 = .ok (.iload_n 1, 1) := dk_27 (dk_at dksX4_guestComes_3 10 rfl rfl)
theorem dX4_guestComes_81 : decode cX4_guestComes 81 = .ok (.iconst 2, 1) := dk_5 (dk_at dksX4_guestComes_3 11 rfl rfl)
theorem dX4_guestComes_82 : decode cX4_guestComes 82 = .ok (.iadd, 1) := dk_96 (dk_at dksX4_guestComes_3 12 rfl rfl)
theorem dX4_guestComes_83 : decode cX4_guestComes 83 = .ok (.iaload, 1) := dk_46 (dk_at dksX4_guestComes_3 13 rfl rfl)
theorem dX4_guestComes_84 : decode cX4_guestComes 84 = .ok (.iastore, 1) := dk_79 (dk_at dksX4_guestComes_3 14 rfl rfl)
theorem dX4_guestComes_85 : decode cX4_guestComes 85 = .ok (.aload_n 0, 1) := dk_42 (dk_at dksX4_guestComes_3 15 rfl rfl)
theorem dX4_guestComes_86 : decode cX4_guestComes 86 = .ok (.getfield 44, 3) := dk_180 0 44 (dk_at dksX4_guestComes_3 16 rfl rfl)
theorem dX4_guestComes_89 : decode cX4_guestComes 89 = .ok (.iload_n 2, 1) := dk_28 (dk_at dksX4_guestComes_3 19 rfl rfl)
theorem dX4_guestComes_90 : decode cX4_guestComes 90 = .ok (.aload_n 0, 1) := dk_42 (dk_at dksX4_guestComes_3 20 rfl rfl)
theorem dX4_guestComes_91 : decode cX4_guestComes 91 = .ok (.getfield 77, 3) := dk_180 0 77 (dk_at dksX4_guestComes_3 21 rfl rfl)
theorem dX4_guestComes_94 : decode cX4_guestComes 94 = .ok (.iload_n 1, 1) := dk_27 (dk_at dksX4_guestComes_4 0 rfl rfl)
theorem dX4_guestComes_95 : decode cX4_guestComes 95 = .ok (.iconst 3, 1) := dk_6 (dk_at dksX4_guestComes_4 1 rfl rfl)
theorem dX4_guestComes_96 : decode cX4_guestComes 96 = .ok (.iadd, 1) := dk_96 (dk_at dksX4_guestComes_4 2 rfl rfl)
theorem dX4_guestComes_97 : decode cX4_guestComes 97 = .ok (.iaload, 1) := dk_46 (dk_at dksX4_guestComes_4 3 rfl rfl)
theorem dX4_guestComes_98 : decode cX4_guestComes 98 = .ok (.iastore, 1) := dk_79 (dk_at dksX4_guestComes_4 4 rfl rfl)
theorem dX4_guestComes_99 : decode cX4_guestComes 99 = .ok (.aload_n 0, 1) := dk_42 (dk_at dksX4_guestComes_4 5 rfl rfl)
theorem dX4_guestComes_100 : decode cX4_guestComes 100 = .ok (.getfield 47, 3) := dk_180 0 47 (dk_at dksX4_guestComes_4 6 rfl rfl)
theorem dX4_guestComes_103 : decode cX4_guestComes 103 = .ok (.iload_n 2, 1) := dk_28 (dk_at dksX4_guestComes_4 9 rfl rfl)
theorem dX4_guestComes_104 : decode cX4_guestComes 104 = .ok (.aload_n 0, 1) := dk_42 (dk_at dksX4_guestComes_4 10 rfl rfl)
theorem dX4_guestComes_105 : decode cX4_guestComes 105 = .ok (.getfield 77, 3) := dk_180 0 77 (dk_at dksX4_guestComes_4 11 rfl rfl)
theorem dX4_guestComes_108 : decode cX4_guestComes 108 = .ok (.iload_n 1, 1) := dk_27 (dk_at dksX4_guestComes_4 14 rfl rfl)
theorem dX4_guestComes_109 : decode cX4_guestComes 109 = .ok (.iconst 4, 1) := dk_7 (dk_at dksX4_guestComes_4 15 rfl rfl)
theorem dX4_guestComes_110 : decode cX4_guestComes 110 = .ok (.iadd, 1) := dk_96 (dk_at dksX4_guestComes_4 16 rfl rfl)
theorem dX4_guestComes_111 : decode cX4_guestComes 111 = .ok (.iaload, 1) := dk_46 (dk_at dksX4_guestComes_4 17 rfl rfl)
theorem dX4_guestComes_112 : decode cX4_guestComes 112 = .ok (.iastore, 1) := dk_79 (dk_at dksX4_guestComes_4 18 rfl rfl)
theorem dX4_guestComes_113 : decode cX4_guestComes 113 = .ok (.aload_n 0, 1) := dk_42 (dk_at dksX4_guestComes_4 19 rfl rfl)
theorem dX4_guestComes_114 : decode cX4_guestComes 114 = .ok (.getfield 50, 3) := dk_180 0 50 (dk_at dksX4_guestComes_4 20 rfl rfl)
theorem dX4_guestComes_117 : decode cX4_guestComes 117 = .ok (.iload_n 2, 1) := dk_28 (dk_at dksX4_guestComes_4 23 rfl rfl)
theorem dX4_guestComes_118 : decode cX4_guestComes 118 = .ok (.bipush (-4), 2) := dk_16 252 (dk_at dksX4_guestComes_5 0 rfl rfl)
theorem dX4_guestComes_120 : decode cX4_guestComes 120 = .ok (.iastore, 1) := dk_79 (dk_at dksX4_guestComes_5 2 rfl rfl)
theorem dX4_guestComes_121 : decode cX4_guestComes 121 = .ok (.aload_n 0, 1) := dk_42 (dk_at dksX4_guestComes_5 3 rfl rfl)
theorem dX4_guestComes_122 : decode cX4_guestComes 122 = .ok (.getfield 53, 3) := dk_180 0 53 (dk_at dksX4_guestComes_5 4 rfl rfl)
theorem dX4_guestComes_125 : decode cX4_guestComes 125 = .ok (.iload_n 2, 1) := dk_28 (dk_at dksX4_guestComes_5 7 rfl rfl)
theorem dX4_guestComes_126 : decode cX4_guestComes 126 = .ok (.bipush (-4), 2) := dk_16 252 (dk_at dksX4_guestComes_5 8 rfl rfl)
theorem dX4_guestComes_128 : decode cX4_guestComes 128 = .ok (.iastore, 1) := dk_79 (dk_at dksX4_guestComes_5 10 rfl rfl)
theorem dX4_guestComes_129 : decode cX4_guestComes 129 = .ok (.aload_n 0, 1) := dk_42 (dk_at dksX4_guestComes_5 11 rfl rfl)
theorem dX4_guestComes_130 : decode cX4_guestComes 130 = .ok (.getfield 56, 3) := dk_180 0 56 (dk_at dksX4_guestComes_5 12 rfl rfl)
theorem dX4_guestComes_133 : decode cX4_guestComes 133 = .ok (.iload_n 2, 1) := dk_28 (dk_at dksX4_guestComes_5 15 rfl rfl)
theorem dX4_guestComes_134 : decode cX4_guestComes 134 = .ok (.iconst 0, 1) := dk_3 (dk_at dksX4_guestComes_5 16 rfl rfl)
theorem dX4_guestComes_135 : decode cX4_guestComes 135 = .ok (.iastore, 1) := dk_79 (dk_at dksX4_guestComes_5 17 rfl rfl)
theorem dX4_guestComes_136 : decode cX4_guestComes 136 = .ok (.aload_n 0, 1) := dk_42 (dk_at dksX4_guestComes_5 18 rfl rfl)
theorem dX4_guestComes_137 : decode cX4_guestComes 137 = .ok (.getfield 59, 3) := dk_180 0 59 (dk_at dksX4_guestComes_5 19 rfl rfl)
theorem dX4_guestComes_140 : decode cX4_guestComes 140 = .ok (.iload_n 2, 1) := dk_28 (dk_at dksX4_guestComes_5 22 rfl rfl)
theorem dX4_guestComes_141 : decode cX4_guestComes 141 = .ok (.iconst 0, 1) := dk_3 (dk_at dksX4_guestComes_5 23 rfl rfl)
theorem dX4_guestComes_142 : decode cX4_guestComes 142 = .ok (.iastore, 1) := dk_79 (dk_at dksX4_guestComes_6 0 rfl rfl)
theorem dX4_guestComes_143 : decode cX4_guestComes 143 = .ok (.aload_n 0, 1) := dk_42 (dk_at dksX4_guestComes_6 1 rfl rfl)
theorem dX4_guestComes_144 : decode cX4_guestComes 144 = .ok (.dup, 1) := dk_89 (dk_at dksX4_guestComes_6 2 rfl rfl)
theorem dX4_guestComes_145 : decode cX4_guestComes 145 = .ok (.getfield 112, 3) := dk_180 0 112 (dk_at dksX4_guestComes_6 3 rfl rfl)
theorem dX4_guestComes_148 : decode cX4_guestComes 148 = .ok (.iconst 1, 1) := dk_4 (dk_at dksX4_guestComes_6 6 rfl rfl)
theorem dX4_guestComes_149 : decode cX4_guestComes 149 = .ok (.iadd, 1) := dk_96 (dk_at dksX4_guestComes_6 7 rfl rfl)
theorem dX4_guestComes_150 : decode cX4_guestComes 150 = .ok (.putfield 112, 3) := dk_181 0 112 (dk_at dksX4_guestComes_6 8 rfl rfl)
theorem dX4_guestComes_153 : decode cX4_guestComes 153 = .ok (.iconst 1, 1) := dk_4 (dk_at dksX4_guestComes_6 11 rfl rfl)
theorem dX4_guestComes_154 : decode cX4_guestComes 154 = .ok (.ireturn, 1) := dk_172 (dk_at dksX4_guestComes_6 12 rfl rfl)
abbrev cX4_holdComes : ByteArray := prog_21_method_36_code
def yX4_holdComes : MethodName := ⟨RX4, "holdComes", "(II)Z"⟩
def dkwX4_holdComes_2 : List UInt8 := [42, 27, 28, 182, 0, 149, 29, 172]
abbrev dktX4_holdComes_2 : List UInt8 := dkwX4_holdComes_2 ++ []
def dkwX4_holdComes_1 : List UInt8 := [156, 0, 18, 42, 180, 0, 23, 28, 46, 16, 10, 162, 0, 7, 4, 167, 0, 4, 3, 62, 29, 153, 0, 9]
abbrev dktX4_holdComes_1 : List UInt8 := dkwX4_holdComes_1 ++ dktX4_holdComes_2
def dkwX4_holdComes_0 : List UInt8 := [42, 27, 182, 0, 228, 153, 0, 35, 42, 28, 182, 0, 232, 153, 0, 27, 42, 180, 0, 50, 27, 46]
abbrev dktX4_holdComes_0 : List UInt8 := dkwX4_holdComes_0 ++ dktX4_holdComes_1
theorem dksX4_holdComes_0 : cX4_holdComes.data.toList.drop 0 = dktX4_holdComes_0 := by decide +kernel
theorem dksX4_holdComes_1 : cX4_holdComes.data.toList.drop 22 = dktX4_holdComes_1 := dk_seg dksX4_holdComes_0 22 rfl rfl
theorem dksX4_holdComes_2 : cX4_holdComes.data.toList.drop 46 = dktX4_holdComes_2 := dk_seg dksX4_holdComes_1 24 rfl rfl
theorem dX4_holdComes_0 : decode cX4_holdComes 0 = .ok (.aload_n 0, 1) := dk_42 (dk_at dksX4_holdComes_0 0 rfl rfl)
theorem dX4_holdComes_1 : decode cX4_holdComes 1 = .ok (.iload_n 1, 1) := dk_27 (dk_at dksX4_holdComes_0 1 rfl rfl)
theorem dX4_holdComes_2 : decode cX4_holdComes 2 = .ok (.invokevirtual 228, 3) := dk_182 0 228 (dk_at dksX4_holdComes_0 2 rfl rfl)
theorem dX4_holdComes_5 : decode cX4_holdComes 5 = .ok (.ifCond .eq 35, 3) := dk_153 0 35 (dk_at dksX4_holdComes_0 5 rfl rfl)
theorem dX4_holdComes_8 : decode cX4_holdComes 8 = .ok (.aload_n 0, 1) := dk_42 (dk_at dksX4_holdComes_0 8 rfl rfl)
theorem dX4_holdComes_9 : decode cX4_holdComes 9 = .ok (.iload_n 2, 1) := dk_28 (dk_at dksX4_holdComes_0 9 rfl rfl)
theorem dX4_holdComes_10 : decode cX4_holdComes 10 = .ok (.invokevirtual 232, 3) := dk_182 0 232 (dk_at dksX4_holdComes_0 10 rfl rfl)
theorem dX4_holdComes_13 : decode cX4_holdComes 13 = .ok (.ifCond .eq 27, 3) := dk_153 0 27 (dk_at dksX4_holdComes_0 13 rfl rfl)
theorem dX4_holdComes_16 : decode cX4_holdComes 16 = .ok (.aload_n 0, 1) := dk_42 (dk_at dksX4_holdComes_0 16 rfl rfl)
theorem dX4_holdComes_17 : decode cX4_holdComes 17 = .ok (.getfield 50, 3) := dk_180 0 50 (dk_at dksX4_holdComes_0 17 rfl rfl)
theorem dX4_holdComes_20 : decode cX4_holdComes 20 = .ok (.iload_n 1, 1) := dk_27 (dk_at dksX4_holdComes_0 20 rfl rfl)
theorem dX4_holdComes_21 : decode cX4_holdComes 21 = .ok (.iaload, 1) := dk_46 (dk_at dksX4_holdComes_0 21 rfl rfl)
theorem dX4_holdComes_22 : decode cX4_holdComes 22 = .ok (.ifCond .ge 18, 3) := dk_156 0 18 (dk_at dksX4_holdComes_1 0 rfl rfl)
theorem dX4_holdComes_25 : decode cX4_holdComes 25 = .ok (.aload_n 0, 1) := dk_42 (dk_at dksX4_holdComes_1 3 rfl rfl)
theorem dX4_holdComes_26 : decode cX4_holdComes 26 = .ok (.getfield 23, 3) := dk_180 0 23 (dk_at dksX4_holdComes_1 4 rfl rfl)
theorem dX4_holdComes_29 : decode cX4_holdComes 29 = .ok (.iload_n 2, 1) := dk_28 (dk_at dksX4_holdComes_1 7 rfl rfl)
theorem dX4_holdComes_30 : decode cX4_holdComes 30 = .ok (.iaload, 1) := dk_46 (dk_at dksX4_holdComes_1 8 rfl rfl)
theorem dX4_holdComes_31 : decode cX4_holdComes 31 = .ok (.bipush 10, 2) := dk_16 10 (dk_at dksX4_holdComes_1 9 rfl rfl)
theorem dX4_holdComes_33 : decode cX4_holdComes 33 = .ok (.if_icmp .ge 7, 3) := dk_162 0 7 (dk_at dksX4_holdComes_1 11 rfl rfl)
theorem dX4_holdComes_36 : decode cX4_holdComes 36 = .ok (.iconst 1, 1) := dk_4 (dk_at dksX4_holdComes_1 14 rfl rfl)
theorem dX4_holdComes_37 : decode cX4_holdComes 37 = .ok (.goto 4, 3) := dk_167 0 4 (dk_at dksX4_holdComes_1 15 rfl rfl)
theorem dX4_holdComes_40 : decode cX4_holdComes 40 = .ok (.iconst 0, 1) := dk_3 (dk_at dksX4_holdComes_1 18 rfl rfl)
theorem dX4_holdComes_41 : decode cX4_holdComes 41 = .ok (.istore_n 3, 1) := dk_62 (dk_at dksX4_holdComes_1 19 rfl rfl)
theorem dX4_holdComes_42 : decode cX4_holdComes 42 = .ok (.iload_n 3, 1) := dk_29 (dk_at dksX4_holdComes_1 20 rfl rfl)
theorem dX4_holdComes_43 : decode cX4_holdComes 43 = .ok (.ifCond .eq 9, 3) := dk_153 0 9 (dk_at dksX4_holdComes_1 21 rfl rfl)
theorem dX4_holdComes_46 : decode cX4_holdComes 46 = .ok (.aload_n 0, 1) := dk_42 (dk_at dksX4_holdComes_2 0 rfl rfl)
theorem dX4_holdComes_47 : decode cX4_holdComes 47 = .ok (.iload_n 1, 1) := dk_27 (dk_at dksX4_holdComes_2 1 rfl rfl)
theorem dX4_holdComes_48 : decode cX4_holdComes 48 = .ok (.iload_n 2, 1) := dk_28 (dk_at dksX4_holdComes_2 2 rfl rfl)
theorem dX4_holdComes_49 : decode cX4_holdComes 49 = .ok (.invokevirtual 149, 3) := dk_182 0 149 (dk_at dksX4_holdComes_2 3 rfl rfl)
theorem dX4_holdComes_52 : decode cX4_holdComes 52 = .ok (.iload_n 3, 1) := dk_29 (dk_at dksX4_holdComes_2 6 rfl rfl)
theorem dX4_holdComes_53 : decode cX4_holdComes 53 = .ok (.ireturn, 1) := dk_172 (dk_at dksX4_holdComes_2 7 rfl rfl)
abbrev cX4_isGuest : ByteArray := prog_21_method_5_code
def yX4_isGuest : MethodName := ⟨RX4, "isGuest", "(I)Z"⟩
def dkwX4_isGuest_0 : List UInt8 := [27, 133, 9, 42, 180, 0, 112, 4, 100, 133, 184, 0, 108, 172]
abbrev dktX4_isGuest_0 : List UInt8 := dkwX4_isGuest_0 ++ []
theorem dksX4_isGuest_0 : cX4_isGuest.data.toList.drop 0 = dktX4_isGuest_0 := by decide +kernel
theorem dX4_isGuest_0 : decode cX4_isGuest 0 = .ok (.iload_n 1, 1) := dk_27 (dk_at dksX4_isGuest_0 0 rfl rfl)
theorem dX4_isGuest_1 : decode cX4_isGuest 1 = .ok (.i2l, 1) := dk_133 (dk_at dksX4_isGuest_0 1 rfl rfl)
theorem dX4_isGuest_2 : decode cX4_isGuest 2 = .ok (.lconst 0, 1) := dk_9 (dk_at dksX4_isGuest_0 2 rfl rfl)
theorem dX4_isGuest_3 : decode cX4_isGuest 3 = .ok (.aload_n 0, 1) := dk_42 (dk_at dksX4_isGuest_0 3 rfl rfl)
theorem dX4_isGuest_4 : decode cX4_isGuest 4 = .ok (.getfield 112, 3) := dk_180 0 112 (dk_at dksX4_isGuest_0 4 rfl rfl)
theorem dX4_isGuest_7 : decode cX4_isGuest 7 = .ok (.iconst 1, 1) := dk_4 (dk_at dksX4_isGuest_0 7 rfl rfl)
theorem dX4_isGuest_8 : decode cX4_isGuest 8 = .ok (.isub, 1) := dk_100 (dk_at dksX4_isGuest_0 8 rfl rfl)
theorem dX4_isGuest_9 : decode cX4_isGuest 9 = .ok (.i2l, 1) := dk_133 (dk_at dksX4_isGuest_0 9 rfl rfl)
theorem dX4_isGuest_10 : decode cX4_isGuest 10 = .ok (.invokestatic 108, 3) := dk_184 0 108 (dk_at dksX4_isGuest_0 10 rfl rfl)
theorem dX4_isGuest_13 : decode cX4_isGuest 13 = .ok (.ireturn, 1) := dk_172 (dk_at dksX4_isGuest_0 13 rfl rfl)
abbrev cX4_isGlass : ByteArray := prog_21_method_4_code
def yX4_isGlass : MethodName := ⟨RX4, "isGlass", "(I)Z"⟩
def dkwX4_isGlass_0 : List UInt8 := [27, 133, 9, 42, 180, 0, 105, 4, 100, 133, 184, 0, 108, 172]
abbrev dktX4_isGlass_0 : List UInt8 := dkwX4_isGlass_0 ++ []
theorem dksX4_isGlass_0 : cX4_isGlass.data.toList.drop 0 = dktX4_isGlass_0 := by decide +kernel
theorem dX4_isGlass_0 : decode cX4_isGlass 0 = .ok (.iload_n 1, 1) := dk_27 (dk_at dksX4_isGlass_0 0 rfl rfl)
theorem dX4_isGlass_1 : decode cX4_isGlass 1 = .ok (.i2l, 1) := dk_133 (dk_at dksX4_isGlass_0 1 rfl rfl)
theorem dX4_isGlass_2 : decode cX4_isGlass 2 = .ok (.lconst 0, 1) := dk_9 (dk_at dksX4_isGlass_0 2 rfl rfl)
theorem dX4_isGlass_3 : decode cX4_isGlass 3 = .ok (.aload_n 0, 1) := dk_42 (dk_at dksX4_isGlass_0 3 rfl rfl)
theorem dX4_isGlass_4 : decode cX4_isGlass 4 = .ok (.getfield 105, 3) := dk_180 0 105 (dk_at dksX4_isGlass_0 4 rfl rfl)
theorem dX4_isGlass_7 : decode cX4_isGlass 7 = .ok (.iconst 1, 1) := dk_4 (dk_at dksX4_isGlass_0 7 rfl rfl)
theorem dX4_isGlass_8 : decode cX4_isGlass 8 = .ok (.isub, 1) := dk_100 (dk_at dksX4_isGlass_0 8 rfl rfl)
theorem dX4_isGlass_9 : decode cX4_isGlass 9 = .ok (.i2l, 1) := dk_133 (dk_at dksX4_isGlass_0 9 rfl rfl)
theorem dX4_isGlass_10 : decode cX4_isGlass 10 = .ok (.invokestatic 108, 3) := dk_184 0 108 (dk_at dksX4_isGlass_0 10 rfl rfl)
theorem dX4_isGlass_13 : decode cX4_isGlass 13 = .ok (.ireturn, 1) := dk_172 (dk_at dksX4_isGlass_0 13 rfl rfl)
abbrev cX4_hold : ByteArray := prog_21_method_18_code
def yX4_hold : MethodName := ⟨RX4, "hold", "(II)V"⟩
def dkwX4_hold_1 : List UInt8 := [79, 42, 180, 0, 53, 27, 28, 79, 177]
abbrev dktX4_hold_1 : List UInt8 := dkwX4_hold_1 ++ []
def dkwX4_hold_0 : List UInt8 := [42, 180, 0, 23, 28, 16, 10, 27, 96, 79, 42, 180, 0, 26, 28, 16, 252, 79, 42, 180, 0, 50, 27, 28]
abbrev dktX4_hold_0 : List UInt8 := dkwX4_hold_0 ++ dktX4_hold_1
theorem dksX4_hold_0 : cX4_hold.data.toList.drop 0 = dktX4_hold_0 := by decide +kernel
theorem dksX4_hold_1 : cX4_hold.data.toList.drop 24 = dktX4_hold_1 := dk_seg dksX4_hold_0 24 rfl rfl
theorem dX4_hold_0 : decode cX4_hold 0 = .ok (.aload_n 0, 1) := dk_42 (dk_at dksX4_hold_0 0 rfl rfl)
theorem dX4_hold_1 : decode cX4_hold 1 = .ok (.getfield 23, 3) := dk_180 0 23 (dk_at dksX4_hold_0 1 rfl rfl)
theorem dX4_hold_4 : decode cX4_hold 4 = .ok (.iload_n 2, 1) := dk_28 (dk_at dksX4_hold_0 4 rfl rfl)
theorem dX4_hold_5 : decode cX4_hold 5 = .ok (.bipush 10, 2) := dk_16 10 (dk_at dksX4_hold_0 5 rfl rfl)
theorem dX4_hold_7 : decode cX4_hold 7 = .ok (.iload_n 1, 1) := dk_27 (dk_at dksX4_hold_0 7 rfl rfl)
theorem dX4_hold_8 : decode cX4_hold 8 = .ok (.iadd, 1) := dk_96 (dk_at dksX4_hold_0 8 rfl rfl)
theorem dX4_hold_9 : decode cX4_hold 9 = .ok (.iastore, 1) := dk_79 (dk_at dksX4_hold_0 9 rfl rfl)
theorem dX4_hold_10 : decode cX4_hold 10 = .ok (.aload_n 0, 1) := dk_42 (dk_at dksX4_hold_0 10 rfl rfl)
theorem dX4_hold_11 : decode cX4_hold 11 = .ok (.getfield 26, 3) := dk_180 0 26 (dk_at dksX4_hold_0 11 rfl rfl)
theorem dX4_hold_14 : decode cX4_hold 14 = .ok (.iload_n 2, 1) := dk_28 (dk_at dksX4_hold_0 14 rfl rfl)
theorem dX4_hold_15 : decode cX4_hold 15 = .ok (.bipush (-4), 2) := dk_16 252 (dk_at dksX4_hold_0 15 rfl rfl)
theorem dX4_hold_17 : decode cX4_hold 17 = .ok (.iastore, 1) := dk_79 (dk_at dksX4_hold_0 17 rfl rfl)
theorem dX4_hold_18 : decode cX4_hold 18 = .ok (.aload_n 0, 1) := dk_42 (dk_at dksX4_hold_0 18 rfl rfl)
theorem dX4_hold_19 : decode cX4_hold 19 = .ok (.getfield 50, 3) := dk_180 0 50 (dk_at dksX4_hold_0 19 rfl rfl)
theorem dX4_hold_22 : decode cX4_hold 22 = .ok (.iload_n 1, 1) := dk_27 (dk_at dksX4_hold_0 22 rfl rfl)
theorem dX4_hold_23 : decode cX4_hold 23 = .ok (.iload_n 2, 1) := dk_28 (dk_at dksX4_hold_0 23 rfl rfl)
theorem dX4_hold_24 : decode cX4_hold 24 = .ok (.iastore, 1) := dk_79 (dk_at dksX4_hold_1 0 rfl rfl)
theorem dX4_hold_25 : decode cX4_hold 25 = .ok (.aload_n 0, 1) := dk_42 (dk_at dksX4_hold_1 1 rfl rfl)
theorem dX4_hold_26 : decode cX4_hold 26 = .ok (.getfield 53, 3) := dk_180 0 53 (dk_at dksX4_hold_1 2 rfl rfl)
theorem dX4_hold_29 : decode cX4_hold 29 = .ok (.iload_n 1, 1) := dk_27 (dk_at dksX4_hold_1 5 rfl rfl)
theorem dX4_hold_30 : decode cX4_hold 30 = .ok (.iload_n 2, 1) := dk_28 (dk_at dksX4_hold_1 6 rfl rfl)
theorem dX4_hold_31 : decode cX4_hold 31 = .ok (.iastore, 1) := dk_79 (dk_at dksX4_hold_1 7 rfl rfl)
theorem dX4_hold_32 : decode cX4_hold 32 = .ok (.return_, 1) := dk_177 (dk_at dksX4_hold_1 8 rfl rfl)
abbrev cX4_minuteOn : ByteArray := prog_21_method_22_code
def yX4_minuteOn : MethodName := ⟨RX4, "minuteOn", "()V"⟩
def dkwX4_minuteOn_1 : List UInt8 := [180, 0, 133, 4, 96, 181, 0, 133, 177]
abbrev dktX4_minuteOn_1 : List UInt8 := dkwX4_minuteOn_1 ++ []
def dkwX4_minuteOn_0 : List UInt8 := [3, 60, 27, 42, 180, 0, 112, 162, 0, 14, 42, 27, 182, 0, 173, 132, 1, 1, 167, 255, 240, 42, 89]
abbrev dktX4_minuteOn_0 : List UInt8 := dkwX4_minuteOn_0 ++ dktX4_minuteOn_1
theorem dksX4_minuteOn_0 : cX4_minuteOn.data.toList.drop 0 = dktX4_minuteOn_0 := by decide +kernel
theorem dksX4_minuteOn_1 : cX4_minuteOn.data.toList.drop 23 = dktX4_minuteOn_1 := dk_seg dksX4_minuteOn_0 23 rfl rfl
theorem dX4_minuteOn_0 : decode cX4_minuteOn 0 = .ok (.iconst 0, 1) := dk_3 (dk_at dksX4_minuteOn_0 0 rfl rfl)
theorem dX4_minuteOn_1 : decode cX4_minuteOn 1 = .ok (.istore_n 1, 1) := dk_60 (dk_at dksX4_minuteOn_0 1 rfl rfl)
theorem dX4_minuteOn_2 : decode cX4_minuteOn 2 = .ok (.iload_n 1, 1) := dk_27 (dk_at dksX4_minuteOn_0 2 rfl rfl)
theorem dX4_minuteOn_3 : decode cX4_minuteOn 3 = .ok (.aload_n 0, 1) := dk_42 (dk_at dksX4_minuteOn_0 3 rfl rfl)
theorem dX4_minuteOn_4 : decode cX4_minuteOn 4 = .ok (.getfield 112, 3) := dk_180 0 112 (dk_at dksX4_minuteOn_0 4 rfl rfl)
theorem dX4_minuteOn_7 : decode cX4_minuteOn 7 = .ok (.if_icmp .ge 14, 3) := dk_162 0 14 (dk_at dksX4_minuteOn_0 7 rfl rfl)
theorem dX4_minuteOn_10 : decode cX4_minuteOn 10 = .ok (.aload_n 0, 1) := dk_42 (dk_at dksX4_minuteOn_0 10 rfl rfl)
theorem dX4_minuteOn_11 : decode cX4_minuteOn 11 = .ok (.iload_n 1, 1) := dk_27 (dk_at dksX4_minuteOn_0 11 rfl rfl)
theorem dX4_minuteOn_12 : decode cX4_minuteOn 12 = .ok (.invokevirtual 173, 3) := dk_182 0 173 (dk_at dksX4_minuteOn_0 12 rfl rfl)
theorem dX4_minuteOn_15 : decode cX4_minuteOn 15 = .ok (.iinc 1 1, 3) := dk_132 1 1 (dk_at dksX4_minuteOn_0 15 rfl rfl)
theorem dX4_minuteOn_18 : decode cX4_minuteOn 18 = .ok (.goto (-16), 3) := dk_167 255 240 (dk_at dksX4_minuteOn_0 18 rfl rfl)
theorem dX4_minuteOn_21 : decode cX4_minuteOn 21 = .ok (.aload_n 0, 1) := dk_42 (dk_at dksX4_minuteOn_0 21 rfl rfl)
theorem dX4_minuteOn_22 : decode cX4_minuteOn 22 = .ok (.dup, 1) := dk_89 (dk_at dksX4_minuteOn_0 22 rfl rfl)
theorem dX4_minuteOn_23 : decode cX4_minuteOn 23 = .ok (.getfield 133, 3) := dk_180 0 133 (dk_at dksX4_minuteOn_1 0 rfl rfl)
theorem dX4_minuteOn_26 : decode cX4_minuteOn 26 = .ok (.iconst 1, 1) := dk_4 (dk_at dksX4_minuteOn_1 3 rfl rfl)
theorem dX4_minuteOn_27 : decode cX4_minuteOn 27 = .ok (.iadd, 1) := dk_96 (dk_at dksX4_minuteOn_1 4 rfl rfl)
theorem dX4_minuteOn_28 : decode cX4_minuteOn 28 = .ok (.putfield 133, 3) := dk_181 0 133 (dk_at dksX4_minuteOn_1 5 rfl rfl)
theorem dX4_minuteOn_31 : decode cX4_minuteOn 31 = .ok (.return_, 1) := dk_177 (dk_at dksX4_minuteOn_1 8 rfl rfl)
abbrev cX4_guestOn : ByteArray := prog_21_method_21_code
def yX4_guestOn : MethodName := ⟨RX4, "guestOn", "(I)V"⟩
def dkwX4_guestOn_4 : List UInt8 := [180, 0, 133, 42, 180, 0, 38, 27, 46, 112, 154, 0, 9, 42, 27, 182, 0, 170, 87, 177]
abbrev dktX4_guestOn_4 : List UInt8 := dkwX4_guestOn_4 ++ []
def dkwX4_guestOn_3 : List UInt8 := [180, 0, 50, 27, 46, 46, 158, 0, 9, 42, 27, 182, 0, 167, 87, 42, 180, 0, 133, 158, 0, 23, 42]
abbrev dktX4_guestOn_3 : List UInt8 := dkwX4_guestOn_3 ++ dktX4_guestOn_4
def dkwX4_guestOn_2 : List UInt8 := [182, 0, 164, 87, 177, 42, 180, 0, 133, 42, 180, 0, 35, 27, 46, 112, 154, 0, 23, 42, 180, 0, 20, 42]
abbrev dktX4_guestOn_2 : List UInt8 := dkwX4_guestOn_2 ++ dktX4_guestOn_3
def dkwX4_guestOn_1 : List UInt8 := [27, 46, 112, 154, 0, 8, 42, 27, 182, 0, 160, 42, 180, 0, 50, 27, 46, 156, 0, 10, 42, 27]
abbrev dktX4_guestOn_1 : List UInt8 := dkwX4_guestOn_1 ++ dktX4_guestOn_2
def dkwX4_guestOn_0 : List UInt8 := [42, 180, 0, 41, 27, 46, 158, 0, 29, 42, 180, 0, 133, 158, 0, 22, 42, 180, 0, 133, 42, 180, 0, 41]
abbrev dktX4_guestOn_0 : List UInt8 := dkwX4_guestOn_0 ++ dktX4_guestOn_1
theorem dksX4_guestOn_0 : cX4_guestOn.data.toList.drop 0 = dktX4_guestOn_0 := by decide +kernel
theorem dksX4_guestOn_1 : cX4_guestOn.data.toList.drop 24 = dktX4_guestOn_1 := dk_seg dksX4_guestOn_0 24 rfl rfl
theorem dksX4_guestOn_2 : cX4_guestOn.data.toList.drop 46 = dktX4_guestOn_2 := dk_seg dksX4_guestOn_1 22 rfl rfl
theorem dksX4_guestOn_3 : cX4_guestOn.data.toList.drop 70 = dktX4_guestOn_3 := dk_seg dksX4_guestOn_2 24 rfl rfl
theorem dksX4_guestOn_4 : cX4_guestOn.data.toList.drop 93 = dktX4_guestOn_4 := dk_seg dksX4_guestOn_3 23 rfl rfl
theorem dX4_guestOn_0 : decode cX4_guestOn 0 = .ok (.aload_n 0, 1) := dk_42 (dk_at dksX4_guestOn_0 0 rfl rfl)
theorem dX4_guestOn_1 : decode cX4_guestOn 1 = .ok (.getfield 41, 3) := dk_180 0 41 (dk_at dksX4_guestOn_0 1 rfl rfl)
theorem dX4_guestOn_4 : decode cX4_guestOn 4 = .ok (.iload_n 1, 1) := dk_27 (dk_at dksX4_guestOn_0 4 rfl rfl)
theorem dX4_guestOn_5 : decode cX4_guestOn 5 = .ok (.iaload, 1) := dk_46 (dk_at dksX4_guestOn_0 5 rfl rfl)
theorem dX4_guestOn_6 : decode cX4_guestOn 6 = .ok (.ifCond .le 29, 3) := dk_158 0 29 (dk_at dksX4_guestOn_0 6 rfl rfl)
theorem dX4_guestOn_9 : decode cX4_guestOn 9 = .ok (.aload_n 0, 1) := dk_42 (dk_at dksX4_guestOn_0 9 rfl rfl)
theorem dX4_guestOn_10 : decode cX4_guestOn 10 = .ok (.getfield 133, 3) := dk_180 0 133 (dk_at dksX4_guestOn_0 10 rfl rfl)
theorem dX4_guestOn_13 : decode cX4_guestOn 13 = .ok (.ifCond .le 22, 3) := dk_158 0 22 (dk_at dksX4_guestOn_0 13 rfl rfl)
theorem dX4_guestOn_16 : decode cX4_guestOn 16 = .ok (.aload_n 0, 1) := dk_42 (dk_at dksX4_guestOn_0 16 rfl rfl)
theorem dX4_guestOn_17 : decode cX4_guestOn 17 = .ok (.getfield 133, 3) := dk_180 0 133 (dk_at dksX4_guestOn_0 17 rfl rfl)
theorem dX4_guestOn_20 : decode cX4_guestOn 20 = .ok (.aload_n 0, 1) := dk_42 (dk_at dksX4_guestOn_0 20 rfl rfl)
theorem dX4_guestOn_21 : decode cX4_guestOn 21 = .ok (.getfield 41, 3) := dk_180 0 41 (dk_at dksX4_guestOn_0 21 rfl rfl)
theorem dX4_guestOn_24 : decode cX4_guestOn 24 = .ok (.iload_n 1, 1) := dk_27 (dk_at dksX4_guestOn_1 0 rfl rfl)
theorem dX4_guestOn_25 : decode cX4_guestOn 25 = .ok (.iaload, 1) := dk_46 (dk_at dksX4_guestOn_1 1 rfl rfl)
theorem dX4_guestOn_26 : decode cX4_guestOn 26 = .ok (.irem, 1) := dk_112 (dk_at dksX4_guestOn_1 2 rfl rfl)
theorem dX4_guestOn_27 : decode cX4_guestOn 27 = .ok (.ifCond .ne 8, 3) := dk_154 0 8 (dk_at dksX4_guestOn_1 3 rfl rfl)
theorem dX4_guestOn_30 : decode cX4_guestOn 30 = .ok (.aload_n 0, 1) := dk_42 (dk_at dksX4_guestOn_1 6 rfl rfl)
theorem dX4_guestOn_31 : decode cX4_guestOn 31 = .ok (.iload_n 1, 1) := dk_27 (dk_at dksX4_guestOn_1 7 rfl rfl)
theorem dX4_guestOn_32 : decode cX4_guestOn 32 = .ok (.invokevirtual 160, 3) := dk_182 0 160 (dk_at dksX4_guestOn_1 8 rfl rfl)
theorem dX4_guestOn_35 : decode cX4_guestOn 35 = .ok (.aload_n 0, 1) := dk_42 (dk_at dksX4_guestOn_1 11 rfl rfl)
theorem dX4_guestOn_36 : decode cX4_guestOn 36 = .ok (.getfield 50, 3) := dk_180 0 50 (dk_at dksX4_guestOn_1 12 rfl rfl)
theorem dX4_guestOn_39 : decode cX4_guestOn 39 = .ok (.iload_n 1, 1) := dk_27 (dk_at dksX4_guestOn_1 15 rfl rfl)
theorem dX4_guestOn_40 : decode cX4_guestOn 40 = .ok (.iaload, 1) := dk_46 (dk_at dksX4_guestOn_1 16 rfl rfl)
theorem dX4_guestOn_41 : decode cX4_guestOn 41 = .ok (.ifCond .ge 10, 3) := dk_156 0 10 (dk_at dksX4_guestOn_1 17 rfl rfl)
theorem dX4_guestOn_44 : decode cX4_guestOn 44 = .ok (.aload_n 0, 1) := dk_42 (dk_at dksX4_guestOn_1 20 rfl rfl)
theorem dX4_guestOn_45 : decode cX4_guestOn 45 = .ok (.iload_n 1, 1) := dk_27 (dk_at dksX4_guestOn_1 21 rfl rfl)
theorem dX4_guestOn_46 : decode cX4_guestOn 46 = .ok (.invokevirtual 164, 3) := dk_182 0 164 (dk_at dksX4_guestOn_2 0 rfl rfl)
theorem dX4_guestOn_49 : decode cX4_guestOn 49 = .ok (.pop, 1) := dk_87 (dk_at dksX4_guestOn_2 3 rfl rfl)
theorem dX4_guestOn_50 : decode cX4_guestOn 50 = .ok (.return_, 1) := dk_177 (dk_at dksX4_guestOn_2 4 rfl rfl)
theorem dX4_guestOn_51 : decode cX4_guestOn 51 = .ok (.aload_n 0, 1) := dk_42 (dk_at dksX4_guestOn_2 5 rfl rfl)
theorem dX4_guestOn_52 : decode cX4_guestOn 52 = .ok (.getfield 133, 3) := dk_180 0 133 (dk_at dksX4_guestOn_2 6 rfl rfl)
theorem dX4_guestOn_55 : decode cX4_guestOn 55 = .ok (.aload_n 0, 1) := dk_42 (dk_at dksX4_guestOn_2 9 rfl rfl)
theorem dX4_guestOn_56 : decode cX4_guestOn 56 = .ok (.getfield 35, 3) := dk_180 0 35 (dk_at dksX4_guestOn_2 10 rfl rfl)
theorem dX4_guestOn_59 : decode cX4_guestOn 59 = .ok (.iload_n 1, 1) := dk_27 (dk_at dksX4_guestOn_2 13 rfl rfl)
theorem dX4_guestOn_60 : decode cX4_guestOn 60 = .ok (.iaload, 1) := dk_46 (dk_at dksX4_guestOn_2 14 rfl rfl)
theorem dX4_guestOn_61 : decode cX4_guestOn 61 = .ok (.irem, 1) := dk_112 (dk_at dksX4_guestOn_2 15 rfl rfl)
theorem dX4_guestOn_62 : decode cX4_guestOn 62 = .ok (.ifCond .ne 23, 3) := dk_154 0 23 (dk_at dksX4_guestOn_2 16 rfl rfl)
theorem dX4_guestOn_65 : decode cX4_guestOn 65 = .ok (.aload_n 0, 1) := dk_42 (dk_at dksX4_guestOn_2 19 rfl rfl)
theorem dX4_guestOn_66 : decode cX4_guestOn 66 = .ok (.getfield 20, 3) := dk_180 0 20 (dk_at dksX4_guestOn_2 20 rfl rfl)
theorem dX4_guestOn_69 : decode cX4_guestOn 69 = .ok (.aload_n 0, 1) := dk_42 (dk_at dksX4_guestOn_2 23 rfl rfl)
theorem dX4_guestOn_70 : decode cX4_guestOn 70 = .ok (.getfield 50, 3) := dk_180 0 50 (dk_at dksX4_guestOn_3 0 rfl rfl)
theorem dX4_guestOn_73 : decode cX4_guestOn 73 = .ok (.iload_n 1, 1) := dk_27 (dk_at dksX4_guestOn_3 3 rfl rfl)
theorem dX4_guestOn_74 : decode cX4_guestOn 74 = .ok (.iaload, 1) := dk_46 (dk_at dksX4_guestOn_3 4 rfl rfl)
theorem dX4_guestOn_75 : decode cX4_guestOn 75 = .ok (.iaload, 1) := dk_46 (dk_at dksX4_guestOn_3 5 rfl rfl)
theorem dX4_guestOn_76 : decode cX4_guestOn 76 = .ok (.ifCond .le 9, 3) := dk_158 0 9 (dk_at dksX4_guestOn_3 6 rfl rfl)
theorem dX4_guestOn_79 : decode cX4_guestOn 79 = .ok (.aload_n 0, 1) := dk_42 (dk_at dksX4_guestOn_3 9 rfl rfl)
theorem dX4_guestOn_80 : decode cX4_guestOn 80 = .ok (.iload_n 1, 1) := dk_27 (dk_at dksX4_guestOn_3 10 rfl rfl)
theorem dX4_guestOn_81 : decode cX4_guestOn 81 = .ok (.invokevirtual 167, 3) := dk_182 0 167 (dk_at dksX4_guestOn_3 11 rfl rfl)
theorem dX4_guestOn_84 : decode cX4_guestOn 84 = .ok (.pop, 1) := dk_87 (dk_at dksX4_guestOn_3 14 rfl rfl)
theorem dX4_guestOn_85 : decode cX4_guestOn 85 = .ok (.aload_n 0, 1) := dk_42 (dk_at dksX4_guestOn_3 15 rfl rfl)
theorem dX4_guestOn_86 : decode cX4_guestOn 86 = .ok (.getfield 133, 3) := dk_180 0 133 (dk_at dksX4_guestOn_3 16 rfl rfl)
theorem dX4_guestOn_89 : decode cX4_guestOn 89 = .ok (.ifCond .le 23, 3) := dk_158 0 23 (dk_at dksX4_guestOn_3 19 rfl rfl)
theorem dX4_guestOn_92 : decode cX4_guestOn 92 = .ok (.aload_n 0, 1) := dk_42 (dk_at dksX4_guestOn_3 22 rfl rfl)
theorem dX4_guestOn_93 : decode cX4_guestOn 93 = .ok (.getfield 133, 3) := dk_180 0 133 (dk_at dksX4_guestOn_4 0 rfl rfl)
theorem dX4_guestOn_96 : decode cX4_guestOn 96 = .ok (.aload_n 0, 1) := dk_42 (dk_at dksX4_guestOn_4 3 rfl rfl)
theorem dX4_guestOn_97 : decode cX4_guestOn 97 = .ok (.getfield 38, 3) := dk_180 0 38 (dk_at dksX4_guestOn_4 4 rfl rfl)
theorem dX4_guestOn_100 : decode cX4_guestOn 100 = .ok (.iload_n 1, 1) := dk_27 (dk_at dksX4_guestOn_4 7 rfl rfl)
theorem dX4_guestOn_101 : decode cX4_guestOn 101 = .ok (.iaload, 1) := dk_46 (dk_at dksX4_guestOn_4 8 rfl rfl)
theorem dX4_guestOn_102 : decode cX4_guestOn 102 = .ok (.irem, 1) := dk_112 (dk_at dksX4_guestOn_4 9 rfl rfl)
theorem dX4_guestOn_103 : decode cX4_guestOn 103 = .ok (.ifCond .ne 9, 3) := dk_154 0 9 (dk_at dksX4_guestOn_4 10 rfl rfl)
theorem dX4_guestOn_106 : decode cX4_guestOn 106 = .ok (.aload_n 0, 1) := dk_42 (dk_at dksX4_guestOn_4 13 rfl rfl)
theorem dX4_guestOn_107 : decode cX4_guestOn 107 = .ok (.iload_n 1, 1) := dk_27 (dk_at dksX4_guestOn_4 14 rfl rfl)
theorem dX4_guestOn_108 : decode cX4_guestOn 108 = .ok (.invokevirtual 170, 3) := dk_182 0 170 (dk_at dksX4_guestOn_4 15 rfl rfl)
theorem dX4_guestOn_111 : decode cX4_guestOn 111 = .ok (.pop, 1) := dk_87 (dk_at dksX4_guestOn_4 18 rfl rfl)
theorem dX4_guestOn_112 : decode cX4_guestOn 112 = .ok (.return_, 1) := dk_177 (dk_at dksX4_guestOn_4 19 rfl rfl)
abbrev cX4_goOn : ByteArray := prog_21_method_20_code
def yX4_goOn : MethodName := ⟨RX4, "goOn", "(I)V"⟩
def dkwX4_goOn_1 : List UInt8 := [160, 0, 12, 28, 4, 96, 16, 6, 112, 167, 0, 4, 28, 79, 177]
abbrev dktX4_goOn_1 : List UInt8 := dkwX4_goOn_1 ++ []
def dkwX4_goOn_0 : List UInt8 := [42, 180, 0, 47, 27, 46, 4, 96, 16, 6, 112, 61, 42, 180, 0, 47, 27, 28, 42, 180, 0, 62]
abbrev dktX4_goOn_0 : List UInt8 := dkwX4_goOn_0 ++ dktX4_goOn_1
theorem dksX4_goOn_0 : cX4_goOn.data.toList.drop 0 = dktX4_goOn_0 := by decide +kernel
theorem dksX4_goOn_1 : cX4_goOn.data.toList.drop 22 = dktX4_goOn_1 := dk_seg dksX4_goOn_0 22 rfl rfl
theorem dX4_goOn_0 : decode cX4_goOn 0 = .ok (.aload_n 0, 1) := dk_42 (dk_at dksX4_goOn_0 0 rfl rfl)
theorem dX4_goOn_1 : decode cX4_goOn 1 = .ok (.getfield 47, 3) := dk_180 0 47 (dk_at dksX4_goOn_0 1 rfl rfl)
theorem dX4_goOn_4 : decode cX4_goOn 4 = .ok (.iload_n 1, 1) := dk_27 (dk_at dksX4_goOn_0 4 rfl rfl)
theorem dX4_goOn_5 : decode cX4_goOn 5 = .ok (.iaload, 1) := dk_46 (dk_at dksX4_goOn_0 5 rfl rfl)
theorem dX4_goOn_6 : decode cX4_goOn 6 = .ok (.iconst 1, 1) := dk_4 (dk_at dksX4_goOn_0 6 rfl rfl)
theorem dX4_goOn_7 : decode cX4_goOn 7 = .ok (.iadd, 1) := dk_96 (dk_at dksX4_goOn_0 7 rfl rfl)
theorem dX4_goOn_8 : decode cX4_goOn 8 = .ok (.bipush 6, 2) := dk_16 6 (dk_at dksX4_goOn_0 8 rfl rfl)
theorem dX4_goOn_10 : decode cX4_goOn 10 = .ok (.irem, 1) := dk_112 (dk_at dksX4_goOn_0 10 rfl rfl)
theorem dX4_goOn_11 : decode cX4_goOn 11 = .ok (.istore_n 2, 1) := dk_61 (dk_at dksX4_goOn_0 11 rfl rfl)
theorem dX4_goOn_12 : decode cX4_goOn 12 = .ok (.aload_n 0, 1) := dk_42 (dk_at dksX4_goOn_0 12 rfl rfl)
theorem dX4_goOn_13 : decode cX4_goOn 13 = .ok (.getfield 47, 3) := dk_180 0 47 (dk_at dksX4_goOn_0 13 rfl rfl)
theorem dX4_goOn_16 : decode cX4_goOn 16 = .ok (.iload_n 1, 1) := dk_27 (dk_at dksX4_goOn_0 16 rfl rfl)
theorem dX4_goOn_17 : decode cX4_goOn 17 = .ok (.iload_n 2, 1) := dk_28 (dk_at dksX4_goOn_0 17 rfl rfl)
theorem dX4_goOn_18 : decode cX4_goOn 18 = .ok (.aload_n 0, 1) := dk_42 (dk_at dksX4_goOn_0 18 rfl rfl)
theorem dX4_goOn_19 : decode cX4_goOn 19 = .ok (.getfield 62, 3) := dk_180 0 62 (dk_at dksX4_goOn_0 19 rfl rfl)
theorem dX4_goOn_22 : decode cX4_goOn 22 = .ok (.if_icmp .ne 12, 3) := dk_160 0 12 (dk_at dksX4_goOn_1 0 rfl rfl)
theorem dX4_goOn_25 : decode cX4_goOn 25 = .ok (.iload_n 2, 1) := dk_28 (dk_at dksX4_goOn_1 3 rfl rfl)
theorem dX4_goOn_26 : decode cX4_goOn 26 = .ok (.iconst 1, 1) := dk_4 (dk_at dksX4_goOn_1 4 rfl rfl)
theorem dX4_goOn_27 : decode cX4_goOn 27 = .ok (.iadd, 1) := dk_96 (dk_at dksX4_goOn_1 5 rfl rfl)
theorem dX4_goOn_28 : decode cX4_goOn 28 = .ok (.bipush 6, 2) := dk_16 6 (dk_at dksX4_goOn_1 6 rfl rfl)
theorem dX4_goOn_30 : decode cX4_goOn 30 = .ok (.irem, 1) := dk_112 (dk_at dksX4_goOn_1 8 rfl rfl)
theorem dX4_goOn_31 : decode cX4_goOn 31 = .ok (.goto 4, 3) := dk_167 0 4 (dk_at dksX4_goOn_1 9 rfl rfl)
theorem dX4_goOn_34 : decode cX4_goOn 34 = .ok (.iload_n 2, 1) := dk_28 (dk_at dksX4_goOn_1 12 rfl rfl)
theorem dX4_goOn_35 : decode cX4_goOn 35 = .ok (.iastore, 1) := dk_79 (dk_at dksX4_goOn_1 13 rfl rfl)
theorem dX4_goOn_36 : decode cX4_goOn 36 = .ok (.return_, 1) := dk_177 (dk_at dksX4_goOn_1 14 rfl rfl)
abbrev cX4_takeOne : ByteArray := prog_21_method_19_code
def yX4_takeOne : MethodName := ⟨RX4, "takeOne", "(I)I"⟩
def dkwX4_takeOne_4 : List UInt8 := [28, 182, 0, 149, 42, 89, 180, 0, 157, 4, 96, 181, 0, 157, 28, 172]
abbrev dktX4_takeOne_4 : List UInt8 := dkwX4_takeOne_4 ++ []
def dkwX4_takeOne_3 : List UInt8 := [181, 0, 7, 42, 3, 42, 180, 0, 7, 16, 10, 112, 16, 9, 16, 10, 27, 96, 182, 0, 153, 61, 42, 27]
abbrev dktX4_takeOne_3 : List UInt8 := dkwX4_takeOne_3 ++ dktX4_takeOne_4
def dkwX4_takeOne_2 : List UInt8 := [153, 0, 12, 42, 180, 0, 105, 16, 12, 160, 0, 6, 16, 252, 172, 42, 89, 180, 0, 7, 4, 100]
abbrev dktX4_takeOne_2 : List UInt8 := dkwX4_takeOne_2 ++ dktX4_takeOne_3
def dkwX4_takeOne_1 : List UInt8 := [160, 0, 7, 3, 167, 0, 4, 4, 96, 181, 0, 146, 42, 27, 28, 182, 0, 149, 28, 172, 42, 180, 0, 7]
abbrev dktX4_takeOne_1 : List UInt8 := dkwX4_takeOne_1 ++ dktX4_takeOne_2
def dkwX4_takeOne_0 : List UInt8 := [42, 27, 182, 0, 143, 61, 28, 155, 0, 35, 42, 89, 180, 0, 146, 28, 42, 180, 0, 53, 27, 46]
abbrev dktX4_takeOne_0 : List UInt8 := dkwX4_takeOne_0 ++ dktX4_takeOne_1
theorem dksX4_takeOne_0 : cX4_takeOne.data.toList.drop 0 = dktX4_takeOne_0 := by decide +kernel
theorem dksX4_takeOne_1 : cX4_takeOne.data.toList.drop 22 = dktX4_takeOne_1 := dk_seg dksX4_takeOne_0 22 rfl rfl
theorem dksX4_takeOne_2 : cX4_takeOne.data.toList.drop 46 = dktX4_takeOne_2 := dk_seg dksX4_takeOne_1 24 rfl rfl
theorem dksX4_takeOne_3 : cX4_takeOne.data.toList.drop 68 = dktX4_takeOne_3 := dk_seg dksX4_takeOne_2 22 rfl rfl
theorem dksX4_takeOne_4 : cX4_takeOne.data.toList.drop 92 = dktX4_takeOne_4 := dk_seg dksX4_takeOne_3 24 rfl rfl
theorem dX4_takeOne_0 : decode cX4_takeOne 0 = .ok (.aload_n 0, 1) := dk_42 (dk_at dksX4_takeOne_0 0 rfl rfl)
theorem dX4_takeOne_1 : decode cX4_takeOne 1 = .ok (.iload_n 1, 1) := dk_27 (dk_at dksX4_takeOne_0 1 rfl rfl)
theorem dX4_takeOne_2 : decode cX4_takeOne 2 = .ok (.invokevirtual 143, 3) := dk_182 0 143 (dk_at dksX4_takeOne_0 2 rfl rfl)
theorem dX4_takeOne_5 : decode cX4_takeOne 5 = .ok (.istore_n 2, 1) := dk_61 (dk_at dksX4_takeOne_0 5 rfl rfl)
theorem dX4_takeOne_6 : decode cX4_takeOne 6 = .ok (.iload_n 2, 1) := dk_28 (dk_at dksX4_takeOne_0 6 rfl rfl)
theorem dX4_takeOne_7 : decode cX4_takeOne 7 = .ok (.ifCond .lt 35, 3) := dk_155 0 35 (dk_at dksX4_takeOne_0 7 rfl rfl)
theorem dX4_takeOne_10 : decode cX4_takeOne 10 = .ok (.aload_n 0, 1) := dk_42 (dk_at dksX4_takeOne_0 10 rfl rfl)
theorem dX4_takeOne_11 : decode cX4_takeOne 11 = .ok (.dup, 1) := dk_89 (dk_at dksX4_takeOne_0 11 rfl rfl)
theorem dX4_takeOne_12 : decode cX4_takeOne 12 = .ok (.getfield 146, 3) := dk_180 0 146 (dk_at dksX4_takeOne_0 12 rfl rfl)
theorem dX4_takeOne_15 : decode cX4_takeOne 15 = .ok (.iload_n 2, 1) := dk_28 (dk_at dksX4_takeOne_0 15 rfl rfl)
theorem dX4_takeOne_16 : decode cX4_takeOne 16 = .ok (.aload_n 0, 1) := dk_42 (dk_at dksX4_takeOne_0 16 rfl rfl)
theorem dX4_takeOne_17 : decode cX4_takeOne 17 = .ok (.getfield 53, 3) := dk_180 0 53 (dk_at dksX4_takeOne_0 17 rfl rfl)
theorem dX4_takeOne_20 : decode cX4_takeOne 20 = .ok (.iload_n 1, 1) := dk_27 (dk_at dksX4_takeOne_0 20 rfl rfl)
theorem dX4_takeOne_21 : decode cX4_takeOne 21 = .ok (.iaload, 1) := dk_46 (dk_at dksX4_takeOne_0 21 rfl rfl)
theorem dX4_takeOne_22 : decode cX4_takeOne 22 = .ok (.if_icmp .ne 7, 3) := dk_160 0 7 (dk_at dksX4_takeOne_1 0 rfl rfl)
theorem dX4_takeOne_25 : decode cX4_takeOne 25 = .ok (.iconst 0, 1) := dk_3 (dk_at dksX4_takeOne_1 3 rfl rfl)
theorem dX4_takeOne_26 : decode cX4_takeOne 26 = .ok (.goto 4, 3) := dk_167 0 4 (dk_at dksX4_takeOne_1 4 rfl rfl)
theorem dX4_takeOne_29 : decode cX4_takeOne 29 = .ok (.iconst 1, 1) := dk_4 (dk_at dksX4_takeOne_1 7 rfl rfl)
theorem dX4_takeOne_30 : decode cX4_takeOne 30 = .ok (.iadd, 1) := dk_96 (dk_at dksX4_takeOne_1 8 rfl rfl)
theorem dX4_takeOne_31 : decode cX4_takeOne 31 = .ok (.putfield 146, 3) := dk_181 0 146 (dk_at dksX4_takeOne_1 9 rfl rfl)
theorem dX4_takeOne_34 : decode cX4_takeOne 34 = .ok (.aload_n 0, 1) := dk_42 (dk_at dksX4_takeOne_1 12 rfl rfl)
theorem dX4_takeOne_35 : decode cX4_takeOne 35 = .ok (.iload_n 1, 1) := dk_27 (dk_at dksX4_takeOne_1 13 rfl rfl)
theorem dX4_takeOne_36 : decode cX4_takeOne 36 = .ok (.iload_n 2, 1) := dk_28 (dk_at dksX4_takeOne_1 14 rfl rfl)
theorem dX4_takeOne_37 : decode cX4_takeOne 37 = .ok (.invokevirtual 149, 3) := dk_182 0 149 (dk_at dksX4_takeOne_1 15 rfl rfl)
theorem dX4_takeOne_40 : decode cX4_takeOne 40 = .ok (.iload_n 2, 1) := dk_28 (dk_at dksX4_takeOne_1 18 rfl rfl)
theorem dX4_takeOne_41 : decode cX4_takeOne 41 = .ok (.ireturn, 1) := dk_172 (dk_at dksX4_takeOne_1 19 rfl rfl)
theorem dX4_takeOne_42 : decode cX4_takeOne 42 = .ok (.aload_n 0, 1) := dk_42 (dk_at dksX4_takeOne_1 20 rfl rfl)
theorem dX4_takeOne_43 : decode cX4_takeOne 43 = .ok (.getfield 7, 3) := dk_180 0 7 (dk_at dksX4_takeOne_1 21 rfl rfl)
theorem dX4_takeOne_46 : decode cX4_takeOne 46 = .ok (.ifCond .eq 12, 3) := dk_153 0 12 (dk_at dksX4_takeOne_2 0 rfl rfl)
theorem dX4_takeOne_49 : decode cX4_takeOne 49 = .ok (.aload_n 0, 1) := dk_42 (dk_at dksX4_takeOne_2 3 rfl rfl)
theorem dX4_takeOne_50 : decode cX4_takeOne 50 = .ok (.getfield 105, 3) := dk_180 0 105 (dk_at dksX4_takeOne_2 4 rfl rfl)
theorem dX4_takeOne_53 : decode cX4_takeOne 53 = .ok (.bipush 12, 2) := dk_16 12 (dk_at dksX4_takeOne_2 7 rfl rfl)
theorem dX4_takeOne_55 : decode cX4_takeOne 55 = .ok (.if_icmp .ne 6, 3) := dk_160 0 6 (dk_at dksX4_takeOne_2 9 rfl rfl)
theorem dX4_takeOne_58 : decode cX4_takeOne 58 = .ok (.bipush (-4), 2) := dk_16 252 (dk_at dksX4_takeOne_2 12 rfl rfl)
theorem dX4_takeOne_60 : decode cX4_takeOne 60 = .ok (.ireturn, 1) := dk_172 (dk_at dksX4_takeOne_2 14 rfl rfl)
theorem dX4_takeOne_61 : decode cX4_takeOne 61 = .ok (.aload_n 0, 1) := dk_42 (dk_at dksX4_takeOne_2 15 rfl rfl)
theorem dX4_takeOne_62 : decode cX4_takeOne 62 = .ok (.dup, 1) := dk_89 (dk_at dksX4_takeOne_2 16 rfl rfl)
theorem dX4_takeOne_63 : decode cX4_takeOne 63 = .ok (.getfield 7, 3) := dk_180 0 7 (dk_at dksX4_takeOne_2 17 rfl rfl)
theorem dX4_takeOne_66 : decode cX4_takeOne 66 = .ok (.iconst 1, 1) := dk_4 (dk_at dksX4_takeOne_2 20 rfl rfl)
theorem dX4_takeOne_67 : decode cX4_takeOne 67 = .ok (.isub, 1) := dk_100 (dk_at dksX4_takeOne_2 21 rfl rfl)
theorem dX4_takeOne_68 : decode cX4_takeOne 68 = .ok (.putfield 7, 3) := dk_181 0 7 (dk_at dksX4_takeOne_3 0 rfl rfl)
theorem dX4_takeOne_71 : decode cX4_takeOne 71 = .ok (.aload_n 0, 1) := dk_42 (dk_at dksX4_takeOne_3 3 rfl rfl)
theorem dX4_takeOne_72 : decode cX4_takeOne 72 = .ok (.iconst 0, 1) := dk_3 (dk_at dksX4_takeOne_3 4 rfl rfl)
theorem dX4_takeOne_73 : decode cX4_takeOne 73 = .ok (.aload_n 0, 1) := dk_42 (dk_at dksX4_takeOne_3 5 rfl rfl)
theorem dX4_takeOne_74 : decode cX4_takeOne 74 = .ok (.getfield 7, 3) := dk_180 0 7 (dk_at dksX4_takeOne_3 6 rfl rfl)
theorem dX4_takeOne_77 : decode cX4_takeOne 77 = .ok (.bipush 10, 2) := dk_16 10 (dk_at dksX4_takeOne_3 9 rfl rfl)
theorem dX4_takeOne_79 : decode cX4_takeOne 79 = .ok (.irem, 1) := dk_112 (dk_at dksX4_takeOne_3 11 rfl rfl)
theorem dX4_takeOne_80 : decode cX4_takeOne 80 = .ok (.bipush 9, 2) := dk_16 9 (dk_at dksX4_takeOne_3 12 rfl rfl)
theorem dX4_takeOne_82 : decode cX4_takeOne 82 = .ok (.bipush 10, 2) := dk_16 10 (dk_at dksX4_takeOne_3 14 rfl rfl)
theorem dX4_takeOne_84 : decode cX4_takeOne 84 = .ok (.iload_n 1, 1) := dk_27 (dk_at dksX4_takeOne_3 16 rfl rfl)
theorem dX4_takeOne_85 : decode cX4_takeOne 85 = .ok (.iadd, 1) := dk_96 (dk_at dksX4_takeOne_3 17 rfl rfl)
theorem dX4_takeOne_86 : decode cX4_takeOne 86 = .ok (.invokevirtual 153, 3) := dk_182 0 153 (dk_at dksX4_takeOne_3 18 rfl rfl)
theorem dX4_takeOne_89 : decode cX4_takeOne 89 = .ok (.istore_n 2, 1) := dk_61 (dk_at dksX4_takeOne_3 21 rfl rfl)
theorem dX4_takeOne_90 : decode cX4_takeOne 90 = .ok (.aload_n 0, 1) := dk_42 (dk_at dksX4_takeOne_3 22 rfl rfl)
theorem dX4_takeOne_91 : decode cX4_takeOne 91 = .ok (.iload_n 1, 1) := dk_27 (dk_at dksX4_takeOne_3 23 rfl rfl)
theorem dX4_takeOne_92 : decode cX4_takeOne 92 = .ok (.iload_n 2, 1) := dk_28 (dk_at dksX4_takeOne_4 0 rfl rfl)
theorem dX4_takeOne_93 : decode cX4_takeOne 93 = .ok (.invokevirtual 149, 3) := dk_182 0 149 (dk_at dksX4_takeOne_4 1 rfl rfl)
theorem dX4_takeOne_96 : decode cX4_takeOne 96 = .ok (.aload_n 0, 1) := dk_42 (dk_at dksX4_takeOne_4 4 rfl rfl)
theorem dX4_takeOne_97 : decode cX4_takeOne 97 = .ok (.dup, 1) := dk_89 (dk_at dksX4_takeOne_4 5 rfl rfl)
theorem dX4_takeOne_98 : decode cX4_takeOne 98 = .ok (.getfield 157, 3) := dk_180 0 157 (dk_at dksX4_takeOne_4 6 rfl rfl)
theorem dX4_takeOne_101 : decode cX4_takeOne 101 = .ok (.iconst 1, 1) := dk_4 (dk_at dksX4_takeOne_4 9 rfl rfl)
theorem dX4_takeOne_102 : decode cX4_takeOne 102 = .ok (.iadd, 1) := dk_96 (dk_at dksX4_takeOne_4 10 rfl rfl)
theorem dX4_takeOne_103 : decode cX4_takeOne 103 = .ok (.putfield 157, 3) := dk_181 0 157 (dk_at dksX4_takeOne_4 11 rfl rfl)
theorem dX4_takeOne_106 : decode cX4_takeOne 106 = .ok (.iload_n 2, 1) := dk_28 (dk_at dksX4_takeOne_4 14 rfl rfl)
theorem dX4_takeOne_107 : decode cX4_takeOne 107 = .ok (.ireturn, 1) := dk_172 (dk_at dksX4_takeOne_4 15 rfl rfl)
abbrev cX4_wouldTake : ByteArray := prog_21_method_16_code
def yX4_wouldTake : MethodName := ⟨RX4, "wouldTake", "(I)I"⟩
def dkwX4_wouldTake_7 : List UInt8 := [167, 255, 123, 29, 172]
abbrev dktX4_wouldTake_7 : List UInt8 := dkwX4_wouldTake_7 ++ []
def dkwX4_wouldTake_6 : List UInt8 := [160, 0, 18, 42, 21, 4, 29, 182, 0, 139, 153, 0, 8, 21, 4, 167, 0, 4, 29, 62, 132, 4, 1]
abbrev dktX4_wouldTake_6 : List UInt8 := dkwX4_wouldTake_6 ++ dktX4_wouldTake_7
def dkwX4_wouldTake_5 : List UInt8 := [28, 29, 182, 0, 136, 54, 8, 21, 7, 153, 0, 32, 21, 6, 21, 8, 163, 0, 20, 21, 6, 21, 8]
abbrev dktX4_wouldTake_5 : List UInt8 := dkwX4_wouldTake_5 ++ dktX4_wouldTake_6
def dkwX4_wouldTake_4 : List UInt8 := [180, 0, 44, 27, 46, 161, 0, 7, 4, 167, 0, 4, 3, 54, 7, 29, 156, 0, 7, 3, 167, 0, 9, 42]
abbrev dktX4_wouldTake_4 : List UInt8 := dkwX4_wouldTake_4 ++ dktX4_wouldTake_5
def dkwX4_wouldTake_3 : List UInt8 := [182, 0, 136, 167, 0, 4, 3, 54, 6, 21, 5, 153, 0, 23, 21, 6, 158, 0, 18, 21, 6, 42]
abbrev dktX4_wouldTake_3 : List UInt8 := dkwX4_wouldTake_3 ++ dktX4_wouldTake_4
def dkwX4_wouldTake_2 : List UInt8 := [180, 0, 47, 27, 46, 160, 0, 7, 4, 167, 0, 4, 3, 54, 5, 21, 5, 153, 0, 13, 42, 28, 21, 4]
abbrev dktX4_wouldTake_2 : List UInt8 := dkwX4_wouldTake_2 ++ dktX4_wouldTake_3
def dkwX4_wouldTake_1 : List UInt8 := [172, 16, 252, 62, 3, 54, 4, 21, 4, 42, 180, 0, 105, 162, 0, 130, 42, 180, 0, 23, 21, 4, 46, 42]
abbrev dktX4_wouldTake_1 : List UInt8 := dkwX4_wouldTake_1 ++ dktX4_wouldTake_2
def dkwX4_wouldTake_0 : List UInt8 := [42, 180, 0, 53, 27, 46, 61, 28, 155, 0, 14, 42, 180, 0, 23, 28, 46, 16, 20, 160, 0, 6, 16, 252]
abbrev dktX4_wouldTake_0 : List UInt8 := dkwX4_wouldTake_0 ++ dktX4_wouldTake_1
theorem dksX4_wouldTake_0 : cX4_wouldTake.data.toList.drop 0 = dktX4_wouldTake_0 := by decide +kernel
theorem dksX4_wouldTake_1 : cX4_wouldTake.data.toList.drop 24 = dktX4_wouldTake_1 := dk_seg dksX4_wouldTake_0 24 rfl rfl
theorem dksX4_wouldTake_2 : cX4_wouldTake.data.toList.drop 48 = dktX4_wouldTake_2 := dk_seg dksX4_wouldTake_1 24 rfl rfl
theorem dksX4_wouldTake_3 : cX4_wouldTake.data.toList.drop 72 = dktX4_wouldTake_3 := dk_seg dksX4_wouldTake_2 24 rfl rfl
theorem dksX4_wouldTake_4 : cX4_wouldTake.data.toList.drop 94 = dktX4_wouldTake_4 := dk_seg dksX4_wouldTake_3 22 rfl rfl
theorem dksX4_wouldTake_5 : cX4_wouldTake.data.toList.drop 118 = dktX4_wouldTake_5 := dk_seg dksX4_wouldTake_4 24 rfl rfl
theorem dksX4_wouldTake_6 : cX4_wouldTake.data.toList.drop 141 = dktX4_wouldTake_6 := dk_seg dksX4_wouldTake_5 23 rfl rfl
theorem dksX4_wouldTake_7 : cX4_wouldTake.data.toList.drop 164 = dktX4_wouldTake_7 := dk_seg dksX4_wouldTake_6 23 rfl rfl
theorem dX4_wouldTake_0 : decode cX4_wouldTake 0 = .ok (.aload_n 0, 1) := dk_42 (dk_at dksX4_wouldTake_0 0 rfl rfl)
theorem dX4_wouldTake_1 : decode cX4_wouldTake 1 = .ok (.getfield 53, 3) := dk_180 0 53 (dk_at dksX4_wouldTake_0 1 rfl rfl)
theorem dX4_wouldTake_4 : decode cX4_wouldTake 4 = .ok (.iload_n 1, 1) := dk_27 (dk_at dksX4_wouldTake_0 4 rfl rfl)
theorem dX4_wouldTake_5 : decode cX4_wouldTake 5 = .ok (.iaload, 1) := dk_46 (dk_at dksX4_wouldTake_0 5 rfl rfl)
theorem dX4_wouldTake_6 : decode cX4_wouldTake 6 = .ok (.istore_n 2, 1) := dk_61 (dk_at dksX4_wouldTake_0 6 rfl rfl)
theorem dX4_wouldTake_7 : decode cX4_wouldTake 7 = .ok (.iload_n 2, 1) := dk_28 (dk_at dksX4_wouldTake_0 7 rfl rfl)
theorem dX4_wouldTake_8 : decode cX4_wouldTake 8 = .ok (.ifCond .lt 14, 3) := dk_155 0 14 (dk_at dksX4_wouldTake_0 8 rfl rfl)
theorem dX4_wouldTake_11 : decode cX4_wouldTake 11 = .ok (.aload_n 0, 1) := dk_42 (dk_at dksX4_wouldTake_0 11 rfl rfl)
theorem dX4_wouldTake_12 : decode cX4_wouldTake 12 = .ok (.getfield 23, 3) := dk_180 0 23 (dk_at dksX4_wouldTake_0 12 rfl rfl)
theorem dX4_wouldTake_15 : decode cX4_wouldTake 15 = .ok (.iload_n 2, 1) := dk_28 (dk_at dksX4_wouldTake_0 15 rfl rfl)
theorem dX4_wouldTake_16 : decode cX4_wouldTake 16 = .ok (.iaload, 1) := dk_46 (dk_at dksX4_wouldTake_0 16 rfl rfl)
theorem dX4_wouldTake_17 : decode cX4_wouldTake 17 = .ok (.bipush 20, 2) := dk_16 20 (dk_at dksX4_wouldTake_0 17 rfl rfl)
theorem dX4_wouldTake_19 : decode cX4_wouldTake 19 = .ok (.if_icmp .ne 6, 3) := dk_160 0 6 (dk_at dksX4_wouldTake_0 19 rfl rfl)
theorem dX4_wouldTake_22 : decode cX4_wouldTake 22 = .ok (.bipush (-4), 2) := dk_16 252 (dk_at dksX4_wouldTake_0 22 rfl rfl)
theorem dX4_wouldTake_24 : decode cX4_wouldTake 24 = .ok (.ireturn, 1) := dk_172 (dk_at dksX4_wouldTake_1 0 rfl rfl)
theorem dX4_wouldTake_25 : decode cX4_wouldTake 25 = .ok (.bipush (-4), 2) := dk_16 252 (dk_at dksX4_wouldTake_1 1 rfl rfl)
theorem dX4_wouldTake_27 : decode cX4_wouldTake 27 = .ok (.istore_n 3, 1) := dk_62 (dk_at dksX4_wouldTake_1 3 rfl rfl)
theorem dX4_wouldTake_28 : decode cX4_wouldTake 28 = .ok (.iconst 0, 1) := dk_3 (dk_at dksX4_wouldTake_1 4 rfl rfl)
theorem dX4_wouldTake_29 : decode cX4_wouldTake 29 = .ok (.istore 4, 2) := dk_54 4 (dk_at dksX4_wouldTake_1 5 rfl rfl)
theorem dX4_wouldTake_31 : decode cX4_wouldTake 31 = .ok (.iload 4, 2) := dk_21 4 (dk_at dksX4_wouldTake_1 7 rfl rfl)
theorem dX4_wouldTake_33 : decode cX4_wouldTake 33 = .ok (.aload_n 0, 1) := dk_42 (dk_at dksX4_wouldTake_1 9 rfl rfl)
theorem dX4_wouldTake_34 : decode cX4_wouldTake 34 = .ok (.getfield 105, 3) := dk_180 0 105 (dk_at dksX4_wouldTake_1 10 rfl rfl)
theorem dX4_wouldTake_37 : decode cX4_wouldTake 37 = .ok (.if_icmp .ge 130, 3) := dk_162 0 130 (dk_at dksX4_wouldTake_1 13 rfl rfl)
theorem dX4_wouldTake_40 : decode cX4_wouldTake 40 = .ok (.aload_n 0, 1) := dk_42 (dk_at dksX4_wouldTake_1 16 rfl rfl)
theorem dX4_wouldTake_41 : decode cX4_wouldTake 41 = .ok (.getfield 23, 3) := dk_180 0 23 (dk_at dksX4_wouldTake_1 17 rfl rfl)
theorem dX4_wouldTake_44 : decode cX4_wouldTake 44 = .ok (.iload 4, 2) := dk_21 4 (dk_at dksX4_wouldTake_1 20 rfl rfl)
theorem dX4_wouldTake_46 : decode cX4_wouldTake 46 = .ok (.iaload, 1) := dk_46 (dk_at dksX4_wouldTake_1 22 rfl rfl)
theorem dX4_wouldTake_47 : decode cX4_wouldTake 47 = .ok (.aload_n 0, 1) := dk_42 (dk_at dksX4_wouldTake_1 23 rfl rfl)
theorem dX4_wouldTake_48 : decode cX4_wouldTake 48 = .ok (.getfield 47, 3) := dk_180 0 47 (dk_at dksX4_wouldTake_2 0 rfl rfl)
theorem dX4_wouldTake_51 : decode cX4_wouldTake 51 = .ok (.iload_n 1, 1) := dk_27 (dk_at dksX4_wouldTake_2 3 rfl rfl)
theorem dX4_wouldTake_52 : decode cX4_wouldTake 52 = .ok (.iaload, 1) := dk_46 (dk_at dksX4_wouldTake_2 4 rfl rfl)
theorem dX4_wouldTake_53 : decode cX4_wouldTake 53 = .ok (.if_icmp .ne 7, 3) := dk_160 0 7 (dk_at dksX4_wouldTake_2 5 rfl rfl)
theorem dX4_wouldTake_56 : decode cX4_wouldTake 56 = .ok (.iconst 1, 1) := dk_4 (dk_at dksX4_wouldTake_2 8 rfl rfl)
theorem dX4_wouldTake_57 : decode cX4_wouldTake 57 = .ok (.goto 4, 3) := dk_167 0 4 (dk_at dksX4_wouldTake_2 9 rfl rfl)
theorem dX4_wouldTake_60 : decode cX4_wouldTake 60 = .ok (.iconst 0, 1) := dk_3 (dk_at dksX4_wouldTake_2 12 rfl rfl)
theorem dX4_wouldTake_61 : decode cX4_wouldTake 61 = .ok (.istore 5, 2) := dk_54 5 (dk_at dksX4_wouldTake_2 13 rfl rfl)
theorem dX4_wouldTake_63 : decode cX4_wouldTake 63 = .ok (.iload 5, 2) := dk_21 5 (dk_at dksX4_wouldTake_2 15 rfl rfl)
theorem dX4_wouldTake_65 : decode cX4_wouldTake 65 = .ok (.ifCond .eq 13, 3) := dk_153 0 13 (dk_at dksX4_wouldTake_2 17 rfl rfl)
theorem dX4_wouldTake_68 : decode cX4_wouldTake 68 = .ok (.aload_n 0, 1) := dk_42 (dk_at dksX4_wouldTake_2 20 rfl rfl)
theorem dX4_wouldTake_69 : decode cX4_wouldTake 69 = .ok (.iload_n 2, 1) := dk_28 (dk_at dksX4_wouldTake_2 21 rfl rfl)
theorem dX4_wouldTake_70 : decode cX4_wouldTake 70 = .ok (.iload 4, 2) := dk_21 4 (dk_at dksX4_wouldTake_2 22 rfl rfl)
theorem dX4_wouldTake_72 : decode cX4_wouldTake 72 = .ok (.invokevirtual 136, 3) := dk_182 0 136 (dk_at dksX4_wouldTake_3 0 rfl rfl)
theorem dX4_wouldTake_75 : decode cX4_wouldTake 75 = .ok (.goto 4, 3) := dk_167 0 4 (dk_at dksX4_wouldTake_3 3 rfl rfl)
theorem dX4_wouldTake_78 : decode cX4_wouldTake 78 = .ok (.iconst 0, 1) := dk_3 (dk_at dksX4_wouldTake_3 6 rfl rfl)
theorem dX4_wouldTake_79 : decode cX4_wouldTake 79 = .ok (.istore 6, 2) := dk_54 6 (dk_at dksX4_wouldTake_3 7 rfl rfl)
theorem dX4_wouldTake_81 : decode cX4_wouldTake 81 = .ok (.iload 5, 2) := dk_21 5 (dk_at dksX4_wouldTake_3 9 rfl rfl)
theorem dX4_wouldTake_83 : decode cX4_wouldTake 83 = .ok (.ifCond .eq 23, 3) := dk_153 0 23 (dk_at dksX4_wouldTake_3 11 rfl rfl)
theorem dX4_wouldTake_86 : decode cX4_wouldTake 86 = .ok (.iload 6, 2) := dk_21 6 (dk_at dksX4_wouldTake_3 14 rfl rfl)
theorem dX4_wouldTake_88 : decode cX4_wouldTake 88 = .ok (.ifCond .le 18, 3) := dk_158 0 18 (dk_at dksX4_wouldTake_3 16 rfl rfl)
theorem dX4_wouldTake_91 : decode cX4_wouldTake 91 = .ok (.iload 6, 2) := dk_21 6 (dk_at dksX4_wouldTake_3 19 rfl rfl)
theorem dX4_wouldTake_93 : decode cX4_wouldTake 93 = .ok (.aload_n 0, 1) := dk_42 (dk_at dksX4_wouldTake_3 21 rfl rfl)
theorem dX4_wouldTake_94 : decode cX4_wouldTake 94 = .ok (.getfield 44, 3) := dk_180 0 44 (dk_at dksX4_wouldTake_4 0 rfl rfl)
theorem dX4_wouldTake_97 : decode cX4_wouldTake 97 = .ok (.iload_n 1, 1) := dk_27 (dk_at dksX4_wouldTake_4 3 rfl rfl)
theorem dX4_wouldTake_98 : decode cX4_wouldTake 98 = .ok (.iaload, 1) := dk_46 (dk_at dksX4_wouldTake_4 4 rfl rfl)
theorem dX4_wouldTake_99 : decode cX4_wouldTake 99 = .ok (.if_icmp .lt 7, 3) := dk_161 0 7 (dk_at dksX4_wouldTake_4 5 rfl rfl)
theorem dX4_wouldTake_102 : decode cX4_wouldTake 102 = .ok (.iconst 1, 1) := dk_4 (dk_at dksX4_wouldTake_4 8 rfl rfl)
theorem dX4_wouldTake_103 : decode cX4_wouldTake 103 = .ok (.goto 4, 3) := dk_167 0 4 (dk_at dksX4_wouldTake_4 9 rfl rfl)
theorem dX4_wouldTake_106 : decode cX4_wouldTake 106 = .ok (.iconst 0, 1) := dk_3 (dk_at dksX4_wouldTake_4 12 rfl rfl)
theorem dX4_wouldTake_107 : decode cX4_wouldTake 107 = .ok (.istore 7, 2) := dk_54 7 (dk_at dksX4_wouldTake_4 13 rfl rfl)
theorem dX4_wouldTake_109 : decode cX4_wouldTake 109 = .ok (.iload_n 3, 1) := dk_29 (dk_at dksX4_wouldTake_4 15 rfl rfl)
theorem dX4_wouldTake_110 : decode cX4_wouldTake 110 = .ok (.ifCond .ge 7, 3) := dk_156 0 7 (dk_at dksX4_wouldTake_4 16 rfl rfl)
theorem dX4_wouldTake_113 : decode cX4_wouldTake 113 = .ok (.iconst 0, 1) := dk_3 (dk_at dksX4_wouldTake_4 19 rfl rfl)
theorem dX4_wouldTake_114 : decode cX4_wouldTake 114 = .ok (.goto 9, 3) := dk_167 0 9 (dk_at dksX4_wouldTake_4 20 rfl rfl)
theorem dX4_wouldTake_117 : decode cX4_wouldTake 117 = .ok (.aload_n 0, 1) := dk_42 (dk_at dksX4_wouldTake_4 23 rfl rfl)
theorem dX4_wouldTake_118 : decode cX4_wouldTake 118 = .ok (.iload_n 2, 1) := dk_28 (dk_at dksX4_wouldTake_5 0 rfl rfl)
theorem dX4_wouldTake_119 : decode cX4_wouldTake 119 = .ok (.iload_n 3, 1) := dk_29 (dk_at dksX4_wouldTake_5 1 rfl rfl)
theorem dX4_wouldTake_120 : decode cX4_wouldTake 120 = .ok (.invokevirtual 136, 3) := dk_182 0 136 (dk_at dksX4_wouldTake_5 2 rfl rfl)
theorem dX4_wouldTake_123 : decode cX4_wouldTake 123 = .ok (.istore 8, 2) := dk_54 8 (dk_at dksX4_wouldTake_5 5 rfl rfl)
theorem dX4_wouldTake_125 : decode cX4_wouldTake 125 = .ok (.iload 7, 2) := dk_21 7 (dk_at dksX4_wouldTake_5 7 rfl rfl)
theorem dX4_wouldTake_127 : decode cX4_wouldTake 127 = .ok (.ifCond .eq 32, 3) := dk_153 0 32 (dk_at dksX4_wouldTake_5 9 rfl rfl)
theorem dX4_wouldTake_130 : decode cX4_wouldTake 130 = .ok (.iload 6, 2) := dk_21 6 (dk_at dksX4_wouldTake_5 12 rfl rfl)
theorem dX4_wouldTake_132 : decode cX4_wouldTake 132 = .ok (.iload 8, 2) := dk_21 8 (dk_at dksX4_wouldTake_5 14 rfl rfl)
theorem dX4_wouldTake_134 : decode cX4_wouldTake 134 = .ok (.if_icmp .gt 20, 3) := dk_163 0 20 (dk_at dksX4_wouldTake_5 16 rfl rfl)
theorem dX4_wouldTake_137 : decode cX4_wouldTake 137 = .ok (.iload 6, 2) := dk_21 6 (dk_at dksX4_wouldTake_5 19 rfl rfl)
theorem dX4_wouldTake_139 : decode cX4_wouldTake 139 = .ok (.iload 8, 2) := dk_21 8 (dk_at dksX4_wouldTake_5 21 rfl rfl)
theorem dX4_wouldTake_141 : decode cX4_wouldTake 141 = .ok (.if_icmp .ne 18, 3) := dk_160 0 18 (dk_at dksX4_wouldTake_6 0 rfl rfl)
theorem dX4_wouldTake_144 : decode cX4_wouldTake 144 = .ok (.aload_n 0, 1) := dk_42 (dk_at dksX4_wouldTake_6 3 rfl rfl)
theorem dX4_wouldTake_145 : decode cX4_wouldTake 145 = .ok (.iload 4, 2) := dk_21 4 (dk_at dksX4_wouldTake_6 4 rfl rfl)
theorem dX4_wouldTake_147 : decode cX4_wouldTake 147 = .ok (.iload_n 3, 1) := dk_29 (dk_at dksX4_wouldTake_6 6 rfl rfl)
theorem dX4_wouldTake_148 : decode cX4_wouldTake 148 = .ok (.invokevirtual 139, 3) := dk_182 0 139 (dk_at dksX4_wouldTake_6 7 rfl rfl)
theorem dX4_wouldTake_151 : decode cX4_wouldTake 151 = .ok (.ifCond .eq 8, 3) := dk_153 0 8 (dk_at dksX4_wouldTake_6 10 rfl rfl)
theorem dX4_wouldTake_154 : decode cX4_wouldTake 154 = .ok (.iload 4, 2) := dk_21 4 (dk_at dksX4_wouldTake_6 13 rfl rfl)
theorem dX4_wouldTake_156 : decode cX4_wouldTake 156 = .ok (.goto 4, 3) := dk_167 0 4 (dk_at dksX4_wouldTake_6 15 rfl rfl)
theorem dX4_wouldTake_159 : decode cX4_wouldTake 159 = .ok (.iload_n 3, 1) := dk_29 (dk_at dksX4_wouldTake_6 18 rfl rfl)
theorem dX4_wouldTake_160 : decode cX4_wouldTake 160 = .ok (.istore_n 3, 1) := dk_62 (dk_at dksX4_wouldTake_6 19 rfl rfl)
theorem dX4_wouldTake_161 : decode cX4_wouldTake 161 = .ok (.iinc 4 1, 3) := dk_132 4 1 (dk_at dksX4_wouldTake_6 20 rfl rfl)
theorem dX4_wouldTake_164 : decode cX4_wouldTake 164 = .ok (.goto (-133), 3) := dk_167 255 123 (dk_at dksX4_wouldTake_7 0 rfl rfl)
theorem dX4_wouldTake_167 : decode cX4_wouldTake 167 = .ok (.iload_n 3, 1) := dk_29 (dk_at dksX4_wouldTake_7 3 rfl rfl)
theorem dX4_wouldTake_168 : decode cX4_wouldTake 168 = .ok (.ireturn, 1) := dk_172 (dk_at dksX4_wouldTake_7 4 rfl rfl)
abbrev cX4_likeOf : ByteArray := prog_21_method_11_code
def yX4_likeOf : MethodName := ⟨RX4, "likeOf", "(II)I"⟩
def dkwX4_likeOf_7 : List UInt8 := [182, 0, 126, 172]
abbrev dktX4_likeOf_7 : List UInt8 := dkwX4_likeOf_7 ++ []
def dkwX4_likeOf_6 : List UInt8 := [167, 0, 4, 4, 104, 172, 42, 180, 0, 20, 28, 46, 154, 0, 7, 3, 167, 0, 9, 42, 27, 28]
abbrev dktX4_likeOf_6 : List UInt8 := dkwX4_likeOf_6 ++ dktX4_likeOf_7
def dkwX4_likeOf_5 : List UInt8 := [28, 46, 8, 160, 0, 7, 8, 167, 0, 4, 3, 172, 42, 27, 28, 182, 0, 126, 27, 28, 160, 0, 7, 5]
abbrev dktX4_likeOf_5 : List UInt8 := dkwX4_likeOf_5 ++ dktX4_likeOf_6
def dkwX4_likeOf_4 : List UInt8 := [160, 0, 7, 4, 167, 0, 4, 3, 96, 172, 27, 28, 160, 0, 8, 16, 20, 167, 0, 18, 42, 180, 0, 13]
abbrev dktX4_likeOf_4 : List UInt8 := dkwX4_likeOf_4 ++ dktX4_likeOf_5
def dkwX4_likeOf_3 : List UInt8 := [182, 0, 123, 172, 42, 27, 28, 182, 0, 126, 172, 42, 27, 28, 182, 0, 123, 42, 180, 0, 13, 28, 46, 7]
abbrev dktX4_likeOf_3 : List UInt8 := dkwX4_likeOf_3 ++ dktX4_likeOf_4
def dkwX4_likeOf_2 : List UInt8 := [42, 27, 28, 182, 0, 119, 172, 27, 28, 160, 0, 8, 16, 20, 167, 0, 4, 3, 172, 42, 27, 28]
abbrev dktX4_likeOf_2 : List UInt8 := dkwX4_likeOf_2 ++ dktX4_likeOf_3
def dkwX4_likeOf_1 : List UInt8 := [170, 0, 0, 0, 0, 142, 0, 0, 0, 0, 0, 0, 0, 6, 0, 0, 0, 42, 0, 0, 0, 49, 0, 0, 0, 61, 0, 0, 0, 68, 0, 0, 0, 75, 0, 0, 0, 98, 0, 0, 0, 124]
abbrev dktX4_likeOf_1 : List UInt8 := dkwX4_likeOf_1 ++ dktX4_likeOf_2
def dkwX4_likeOf_0 : List UInt8 := [42, 180, 0, 13, 27, 46]
abbrev dktX4_likeOf_0 : List UInt8 := dkwX4_likeOf_0 ++ dktX4_likeOf_1
theorem dksX4_likeOf_0 : cX4_likeOf.data.toList.drop 0 = dktX4_likeOf_0 := by decide +kernel
theorem dksX4_likeOf_1 : cX4_likeOf.data.toList.drop 6 = dktX4_likeOf_1 := dk_seg dksX4_likeOf_0 6 rfl rfl
theorem dksX4_likeOf_2 : cX4_likeOf.data.toList.drop 48 = dktX4_likeOf_2 := dk_seg dksX4_likeOf_1 42 rfl rfl
theorem dksX4_likeOf_3 : cX4_likeOf.data.toList.drop 70 = dktX4_likeOf_3 := dk_seg dksX4_likeOf_2 22 rfl rfl
theorem dksX4_likeOf_4 : cX4_likeOf.data.toList.drop 94 = dktX4_likeOf_4 := dk_seg dksX4_likeOf_3 24 rfl rfl
theorem dksX4_likeOf_5 : cX4_likeOf.data.toList.drop 118 = dktX4_likeOf_5 := dk_seg dksX4_likeOf_4 24 rfl rfl
theorem dksX4_likeOf_6 : cX4_likeOf.data.toList.drop 142 = dktX4_likeOf_6 := dk_seg dksX4_likeOf_5 24 rfl rfl
theorem dksX4_likeOf_7 : cX4_likeOf.data.toList.drop 164 = dktX4_likeOf_7 := dk_seg dksX4_likeOf_6 22 rfl rfl
theorem dX4_likeOf_0 : decode cX4_likeOf 0 = .ok (.aload_n 0, 1) := dk_42 (dk_at dksX4_likeOf_0 0 rfl rfl)
theorem dX4_likeOf_1 : decode cX4_likeOf 1 = .ok (.getfield 13, 3) := dk_180 0 13 (dk_at dksX4_likeOf_0 1 rfl rfl)
theorem dX4_likeOf_4 : decode cX4_likeOf 4 = .ok (.iload_n 1, 1) := dk_27 (dk_at dksX4_likeOf_0 4 rfl rfl)
theorem dX4_likeOf_5 : decode cX4_likeOf 5 = .ok (.iaload, 1) := dk_46 (dk_at dksX4_likeOf_0 5 rfl rfl)
theorem dX4_likeOf_6 : decode cX4_likeOf 6 = .ok (.tableswitch 142 0 6 #[42, 49, 61, 68, 75, 98, 124], 42) := by decide +kernel
theorem dX4_likeOf_48 : decode cX4_likeOf 48 = .ok (.aload_n 0, 1) := dk_42 (dk_at dksX4_likeOf_2 0 rfl rfl)
theorem dX4_likeOf_49 : decode cX4_likeOf 49 = .ok (.iload_n 1, 1) := dk_27 (dk_at dksX4_likeOf_2 1 rfl rfl)
theorem dX4_likeOf_50 : decode cX4_likeOf 50 = .ok (.iload_n 2, 1) := dk_28 (dk_at dksX4_likeOf_2 2 rfl rfl)
theorem dX4_likeOf_51 : decode cX4_likeOf 51 = .ok (.invokevirtual 119, 3) := dk_182 0 119 (dk_at dksX4_likeOf_2 3 rfl rfl)
theorem dX4_likeOf_54 : decode cX4_likeOf 54 = .ok (.ireturn, 1) := dk_172 (dk_at dksX4_likeOf_2 6 rfl rfl)
theorem dX4_likeOf_55 : decode cX4_likeOf 55 = .ok (.iload_n 1, 1) := dk_27 (dk_at dksX4_likeOf_2 7 rfl rfl)
theorem dX4_likeOf_56 : decode cX4_likeOf 56 = .ok (.iload_n 2, 1) := dk_28 (dk_at dksX4_likeOf_2 8 rfl rfl)
theorem dX4_likeOf_57 : decode cX4_likeOf 57 = .ok (.if_icmp .ne 8, 3) := dk_160 0 8 (dk_at dksX4_likeOf_2 9 rfl rfl)
theorem dX4_likeOf_60 : decode cX4_likeOf 60 = .ok (.bipush 20, 2) := dk_16 20 (dk_at dksX4_likeOf_2 12 rfl rfl)
theorem dX4_likeOf_62 : decode cX4_likeOf 62 = .ok (.goto 4, 3) := dk_167 0 4 (dk_at dksX4_likeOf_2 14 rfl rfl)
theorem dX4_likeOf_65 : decode cX4_likeOf 65 = .ok (.iconst 0, 1) := dk_3 (dk_at dksX4_likeOf_2 17 rfl rfl)
theorem dX4_likeOf_66 : decode cX4_likeOf 66 = .ok (.ireturn, 1) := dk_172 (dk_at dksX4_likeOf_2 18 rfl rfl)
theorem dX4_likeOf_67 : decode cX4_likeOf 67 = .ok (.aload_n 0, 1) := dk_42 (dk_at dksX4_likeOf_2 19 rfl rfl)
theorem dX4_likeOf_68 : decode cX4_likeOf 68 = .ok (.iload_n 1, 1) := dk_27 (dk_at dksX4_likeOf_2 20 rfl rfl)
theorem dX4_likeOf_69 : decode cX4_likeOf 69 = .ok (.iload_n 2, 1) := dk_28 (dk_at dksX4_likeOf_2 21 rfl rfl)
theorem dX4_likeOf_70 : decode cX4_likeOf 70 = .ok (.invokevirtual 123, 3) := dk_182 0 123 (dk_at dksX4_likeOf_3 0 rfl rfl)
theorem dX4_likeOf_73 : decode cX4_likeOf 73 = .ok (.ireturn, 1) := dk_172 (dk_at dksX4_likeOf_3 3 rfl rfl)
theorem dX4_likeOf_74 : decode cX4_likeOf 74 = .ok (.aload_n 0, 1) := dk_42 (dk_at dksX4_likeOf_3 4 rfl rfl)
theorem dX4_likeOf_75 : decode cX4_likeOf 75 = .ok (.iload_n 1, 1) := dk_27 (dk_at dksX4_likeOf_3 5 rfl rfl)
theorem dX4_likeOf_76 : decode cX4_likeOf 76 = .ok (.iload_n 2, 1) := dk_28 (dk_at dksX4_likeOf_3 6 rfl rfl)
theorem dX4_likeOf_77 : decode cX4_likeOf 77 = .ok (.invokevirtual 126, 3) := dk_182 0 126 (dk_at dksX4_likeOf_3 7 rfl rfl)
theorem dX4_likeOf_80 : decode cX4_likeOf 80 = .ok (.ireturn, 1) := dk_172 (dk_at dksX4_likeOf_3 10 rfl rfl)
theorem dX4_likeOf_81 : decode cX4_likeOf 81 = .ok (.aload_n 0, 1) := dk_42 (dk_at dksX4_likeOf_3 11 rfl rfl)
theorem dX4_likeOf_82 : decode cX4_likeOf 82 = .ok (.iload_n 1, 1) := dk_27 (dk_at dksX4_likeOf_3 12 rfl rfl)
theorem dX4_likeOf_83 : decode cX4_likeOf 83 = .ok (.iload_n 2, 1) := dk_28 (dk_at dksX4_likeOf_3 13 rfl rfl)
theorem dX4_likeOf_84 : decode cX4_likeOf 84 = .ok (.invokevirtual 123, 3) := dk_182 0 123 (dk_at dksX4_likeOf_3 14 rfl rfl)
theorem dX4_likeOf_87 : decode cX4_likeOf 87 = .ok (.aload_n 0, 1) := dk_42 (dk_at dksX4_likeOf_3 17 rfl rfl)
theorem dX4_likeOf_88 : decode cX4_likeOf 88 = .ok (.getfield 13, 3) := dk_180 0 13 (dk_at dksX4_likeOf_3 18 rfl rfl)
theorem dX4_likeOf_91 : decode cX4_likeOf 91 = .ok (.iload_n 2, 1) := dk_28 (dk_at dksX4_likeOf_3 21 rfl rfl)
theorem dX4_likeOf_92 : decode cX4_likeOf 92 = .ok (.iaload, 1) := dk_46 (dk_at dksX4_likeOf_3 22 rfl rfl)
theorem dX4_likeOf_93 : decode cX4_likeOf 93 = .ok (.iconst 4, 1) := dk_7 (dk_at dksX4_likeOf_3 23 rfl rfl)
theorem dX4_likeOf_94 : decode cX4_likeOf 94 = .ok (.if_icmp .ne 7, 3) := dk_160 0 7 (dk_at dksX4_likeOf_4 0 rfl rfl)
theorem dX4_likeOf_97 : decode cX4_likeOf 97 = .ok (.iconst 1, 1) := dk_4 (dk_at dksX4_likeOf_4 3 rfl rfl)
theorem dX4_likeOf_98 : decode cX4_likeOf 98 = .ok (.goto 4, 3) := dk_167 0 4 (dk_at dksX4_likeOf_4 4 rfl rfl)
theorem dX4_likeOf_101 : decode cX4_likeOf 101 = .ok (.iconst 0, 1) := dk_3 (dk_at dksX4_likeOf_4 7 rfl rfl)
theorem dX4_likeOf_102 : decode cX4_likeOf 102 = .ok (.iadd, 1) := dk_96 (dk_at dksX4_likeOf_4 8 rfl rfl)
theorem dX4_likeOf_103 : decode cX4_likeOf 103 = .ok (.ireturn, 1) := dk_172 (dk_at dksX4_likeOf_4 9 rfl rfl)
theorem dX4_likeOf_104 : decode cX4_likeOf 104 = .ok (.iload_n 1, 1) := dk_27 (dk_at dksX4_likeOf_4 10 rfl rfl)
theorem dX4_likeOf_105 : decode cX4_likeOf 105 = .ok (.iload_n 2, 1) := dk_28 (dk_at dksX4_likeOf_4 11 rfl rfl)
theorem dX4_likeOf_106 : decode cX4_likeOf 106 = .ok (.if_icmp .ne 8, 3) := dk_160 0 8 (dk_at dksX4_likeOf_4 12 rfl rfl)
theorem dX4_likeOf_109 : decode cX4_likeOf 109 = .ok (.bipush 20, 2) := dk_16 20 (dk_at dksX4_likeOf_4 15 rfl rfl)
theorem dX4_likeOf_111 : decode cX4_likeOf 111 = .ok (.goto 18, 3) := dk_167 0 18 (dk_at dksX4_likeOf_4 17 rfl rfl)
theorem dX4_likeOf_114 : decode cX4_likeOf 114 = .ok (.aload_n 0, 1) := dk_42 (dk_at dksX4_likeOf_4 20 rfl rfl)
theorem dX4_likeOf_115 : decode cX4_likeOf 115 = .ok (.getfield 13, 3) := dk_180 0 13 (dk_at dksX4_likeOf_4 21 rfl rfl)
theorem dX4_likeOf_118 : decode cX4_likeOf 118 = .ok (.iload_n 2, 1) := dk_28 (dk_at dksX4_likeOf_5 0 rfl rfl)
theorem dX4_likeOf_119 : decode cX4_likeOf 119 = .ok (.iaload, 1) := dk_46 (dk_at dksX4_likeOf_5 1 rfl rfl)
theorem dX4_likeOf_120 : decode cX4_likeOf 120 = .ok (.iconst 5, 1) := dk_8 (dk_at dksX4_likeOf_5 2 rfl rfl)
theorem dX4_likeOf_121 : decode cX4_likeOf 121 = .ok (.if_icmp .ne 7, 3) := dk_160 0 7 (dk_at dksX4_likeOf_5 3 rfl rfl)
theorem dX4_likeOf_124 : decode cX4_likeOf 124 = .ok (.iconst 5, 1) := dk_8 (dk_at dksX4_likeOf_5 6 rfl rfl)
theorem dX4_likeOf_125 : decode cX4_likeOf 125 = .ok (.goto 4, 3) := dk_167 0 4 (dk_at dksX4_likeOf_5 7 rfl rfl)
theorem dX4_likeOf_128 : decode cX4_likeOf 128 = .ok (.iconst 0, 1) := dk_3 (dk_at dksX4_likeOf_5 10 rfl rfl)
theorem dX4_likeOf_129 : decode cX4_likeOf 129 = .ok (.ireturn, 1) := dk_172 (dk_at dksX4_likeOf_5 11 rfl rfl)
theorem dX4_likeOf_130 : decode cX4_likeOf 130 = .ok (.aload_n 0, 1) := dk_42 (dk_at dksX4_likeOf_5 12 rfl rfl)
theorem dX4_likeOf_131 : decode cX4_likeOf 131 = .ok (.iload_n 1, 1) := dk_27 (dk_at dksX4_likeOf_5 13 rfl rfl)
theorem dX4_likeOf_132 : decode cX4_likeOf 132 = .ok (.iload_n 2, 1) := dk_28 (dk_at dksX4_likeOf_5 14 rfl rfl)
theorem dX4_likeOf_133 : decode cX4_likeOf 133 = .ok (.invokevirtual 126, 3) := dk_182 0 126 (dk_at dksX4_likeOf_5 15 rfl rfl)
theorem dX4_likeOf_136 : decode cX4_likeOf 136 = .ok (.iload_n 1, 1) := dk_27 (dk_at dksX4_likeOf_5 18 rfl rfl)
theorem dX4_likeOf_137 : decode cX4_likeOf 137 = .ok (.iload_n 2, 1) := dk_28 (dk_at dksX4_likeOf_5 19 rfl rfl)
theorem dX4_likeOf_138 : decode cX4_likeOf 138 = .ok (.if_icmp .ne 7, 3) := dk_160 0 7 (dk_at dksX4_likeOf_5 20 rfl rfl)
theorem dX4_likeOf_141 : decode cX4_likeOf 141 = .ok (.iconst 2, 1) := dk_5 (dk_at dksX4_likeOf_5 23 rfl rfl)
theorem dX4_likeOf_142 : decode cX4_likeOf 142 = .ok (.goto 4, 3) := dk_167 0 4 (dk_at dksX4_likeOf_6 0 rfl rfl)
theorem dX4_likeOf_145 : decode cX4_likeOf 145 = .ok (.iconst 1, 1) := dk_4 (dk_at dksX4_likeOf_6 3 rfl rfl)
theorem dX4_likeOf_146 : decode cX4_likeOf 146 = .ok (.imul, 1) := dk_104 (dk_at dksX4_likeOf_6 4 rfl rfl)
theorem dX4_likeOf_147 : decode cX4_likeOf 147 = .ok (.ireturn, 1) := dk_172 (dk_at dksX4_likeOf_6 5 rfl rfl)
theorem dX4_likeOf_148 : decode cX4_likeOf 148 = .ok (.aload_n 0, 1) := dk_42 (dk_at dksX4_likeOf_6 6 rfl rfl)
theorem dX4_likeOf_149 : decode cX4_likeOf 149 = .ok (.getfield 20, 3) := dk_180 0 20 (dk_at dksX4_likeOf_6 7 rfl rfl)
theorem dX4_likeOf_152 : decode cX4_likeOf 152 = .ok (.iload_n 2, 1) := dk_28 (dk_at dksX4_likeOf_6 10 rfl rfl)
theorem dX4_likeOf_153 : decode cX4_likeOf 153 = .ok (.iaload, 1) := dk_46 (dk_at dksX4_likeOf_6 11 rfl rfl)
theorem dX4_likeOf_154 : decode cX4_likeOf 154 = .ok (.ifCond .ne 7, 3) := dk_154 0 7 (dk_at dksX4_likeOf_6 12 rfl rfl)
theorem dX4_likeOf_157 : decode cX4_likeOf 157 = .ok (.iconst 0, 1) := dk_3 (dk_at dksX4_likeOf_6 15 rfl rfl)
theorem dX4_likeOf_158 : decode cX4_likeOf 158 = .ok (.goto 9, 3) := dk_167 0 9 (dk_at dksX4_likeOf_6 16 rfl rfl)
theorem dX4_likeOf_161 : decode cX4_likeOf 161 = .ok (.aload_n 0, 1) := dk_42 (dk_at dksX4_likeOf_6 19 rfl rfl)
theorem dX4_likeOf_162 : decode cX4_likeOf 162 = .ok (.iload_n 1, 1) := dk_27 (dk_at dksX4_likeOf_6 20 rfl rfl)
theorem dX4_likeOf_163 : decode cX4_likeOf 163 = .ok (.iload_n 2, 1) := dk_28 (dk_at dksX4_likeOf_6 21 rfl rfl)
theorem dX4_likeOf_164 : decode cX4_likeOf 164 = .ok (.invokevirtual 126, 3) := dk_182 0 126 (dk_at dksX4_likeOf_7 0 rfl rfl)
theorem dX4_likeOf_167 : decode cX4_likeOf 167 = .ok (.ireturn, 1) := dk_172 (dk_at dksX4_likeOf_7 3 rfl rfl)
abbrev cX4_plainly : ByteArray := prog_21_method_8_code
def yX4_plainly : MethodName := ⟨RX4, "plainly", "(II)I"⟩
def dkwX4_plainly_0 : List UInt8 := [42, 180, 0, 17, 27, 46, 42, 180, 0, 17, 28, 46, 160, 0, 7, 6, 167, 0, 4, 4, 172]
abbrev dktX4_plainly_0 : List UInt8 := dkwX4_plainly_0 ++ []
theorem dksX4_plainly_0 : cX4_plainly.data.toList.drop 0 = dktX4_plainly_0 := by decide +kernel
theorem dX4_plainly_0 : decode cX4_plainly 0 = .ok (.aload_n 0, 1) := dk_42 (dk_at dksX4_plainly_0 0 rfl rfl)
theorem dX4_plainly_1 : decode cX4_plainly 1 = .ok (.getfield 17, 3) := dk_180 0 17 (dk_at dksX4_plainly_0 1 rfl rfl)
theorem dX4_plainly_4 : decode cX4_plainly 4 = .ok (.iload_n 1, 1) := dk_27 (dk_at dksX4_plainly_0 4 rfl rfl)
theorem dX4_plainly_5 : decode cX4_plainly 5 = .ok (.iaload, 1) := dk_46 (dk_at dksX4_plainly_0 5 rfl rfl)
theorem dX4_plainly_6 : decode cX4_plainly 6 = .ok (.aload_n 0, 1) := dk_42 (dk_at dksX4_plainly_0 6 rfl rfl)
theorem dX4_plainly_7 : decode cX4_plainly 7 = .ok (.getfield 17, 3) := dk_180 0 17 (dk_at dksX4_plainly_0 7 rfl rfl)
theorem dX4_plainly_10 : decode cX4_plainly 10 = .ok (.iload_n 2, 1) := dk_28 (dk_at dksX4_plainly_0 10 rfl rfl)
theorem dX4_plainly_11 : decode cX4_plainly 11 = .ok (.iaload, 1) := dk_46 (dk_at dksX4_plainly_0 11 rfl rfl)
theorem dX4_plainly_12 : decode cX4_plainly 12 = .ok (.if_icmp .ne 7, 3) := dk_160 0 7 (dk_at dksX4_plainly_0 12 rfl rfl)
theorem dX4_plainly_15 : decode cX4_plainly 15 = .ok (.iconst 3, 1) := dk_6 (dk_at dksX4_plainly_0 15 rfl rfl)
theorem dX4_plainly_16 : decode cX4_plainly 16 = .ok (.goto 4, 3) := dk_167 0 4 (dk_at dksX4_plainly_0 16 rfl rfl)
theorem dX4_plainly_19 : decode cX4_plainly 19 = .ok (.iconst 1, 1) := dk_4 (dk_at dksX4_plainly_0 19 rfl rfl)
theorem dX4_plainly_20 : decode cX4_plainly 20 = .ok (.ireturn, 1) := dk_172 (dk_at dksX4_plainly_0 20 rfl rfl)
abbrev cX4_tally : ByteArray := prog_21_method_10_code
def yX4_tally : MethodName := ⟨RX4, "tally", "(II)I"⟩
def dkwX4_tally_1 : List UInt8 := [160, 0, 7, 6, 167, 0, 4, 3, 96, 172]
abbrev dktX4_tally_1 : List UInt8 := dkwX4_tally_1 ++ []
def dkwX4_tally_0 : List UInt8 := [42, 27, 28, 182, 0, 119, 42, 180, 0, 13, 28, 46, 5, 159, 0, 13, 42, 180, 0, 13, 28, 46, 7]
abbrev dktX4_tally_0 : List UInt8 := dkwX4_tally_0 ++ dktX4_tally_1
theorem dksX4_tally_0 : cX4_tally.data.toList.drop 0 = dktX4_tally_0 := by decide +kernel
theorem dksX4_tally_1 : cX4_tally.data.toList.drop 23 = dktX4_tally_1 := dk_seg dksX4_tally_0 23 rfl rfl
theorem dX4_tally_0 : decode cX4_tally 0 = .ok (.aload_n 0, 1) := dk_42 (dk_at dksX4_tally_0 0 rfl rfl)
theorem dX4_tally_1 : decode cX4_tally 1 = .ok (.iload_n 1, 1) := dk_27 (dk_at dksX4_tally_0 1 rfl rfl)
theorem dX4_tally_2 : decode cX4_tally 2 = .ok (.iload_n 2, 1) := dk_28 (dk_at dksX4_tally_0 2 rfl rfl)
theorem dX4_tally_3 : decode cX4_tally 3 = .ok (.invokevirtual 119, 3) := dk_182 0 119 (dk_at dksX4_tally_0 3 rfl rfl)
theorem dX4_tally_6 : decode cX4_tally 6 = .ok (.aload_n 0, 1) := dk_42 (dk_at dksX4_tally_0 6 rfl rfl)
theorem dX4_tally_7 : decode cX4_tally 7 = .ok (.getfield 13, 3) := dk_180 0 13 (dk_at dksX4_tally_0 7 rfl rfl)
theorem dX4_tally_10 : decode cX4_tally 10 = .ok (.iload_n 2, 1) := dk_28 (dk_at dksX4_tally_0 10 rfl rfl)
theorem dX4_tally_11 : decode cX4_tally 11 = .ok (.iaload, 1) := dk_46 (dk_at dksX4_tally_0 11 rfl rfl)
theorem dX4_tally_12 : decode cX4_tally 12 = .ok (.iconst 2, 1) := dk_5 (dk_at dksX4_tally_0 12 rfl rfl)
theorem dX4_tally_13 : decode cX4_tally 13 = .ok (.if_icmp .eq 13, 3) := dk_159 0 13 (dk_at dksX4_tally_0 13 rfl rfl)
theorem dX4_tally_16 : decode cX4_tally 16 = .ok (.aload_n 0, 1) := dk_42 (dk_at dksX4_tally_0 16 rfl rfl)
theorem dX4_tally_17 : decode cX4_tally 17 = .ok (.getfield 13, 3) := dk_180 0 13 (dk_at dksX4_tally_0 17 rfl rfl)
theorem dX4_tally_20 : decode cX4_tally 20 = .ok (.iload_n 2, 1) := dk_28 (dk_at dksX4_tally_0 20 rfl rfl)
theorem dX4_tally_21 : decode cX4_tally 21 = .ok (.iaload, 1) := dk_46 (dk_at dksX4_tally_0 21 rfl rfl)
theorem dX4_tally_22 : decode cX4_tally 22 = .ok (.iconst 4, 1) := dk_7 (dk_at dksX4_tally_0 22 rfl rfl)
theorem dX4_tally_23 : decode cX4_tally 23 = .ok (.if_icmp .ne 7, 3) := dk_160 0 7 (dk_at dksX4_tally_1 0 rfl rfl)
theorem dX4_tally_26 : decode cX4_tally 26 = .ok (.iconst 3, 1) := dk_6 (dk_at dksX4_tally_1 3 rfl rfl)
theorem dX4_tally_27 : decode cX4_tally 27 = .ok (.goto 4, 3) := dk_167 0 4 (dk_at dksX4_tally_1 4 rfl rfl)
theorem dX4_tally_30 : decode cX4_tally 30 = .ok (.iconst 0, 1) := dk_3 (dk_at dksX4_tally_1 7 rfl rfl)
theorem dX4_tally_31 : decode cX4_tally 31 = .ok (.iadd, 1) := dk_96 (dk_at dksX4_tally_1 8 rfl rfl)
theorem dX4_tally_32 : decode cX4_tally 32 = .ok (.ireturn, 1) := dk_172 (dk_at dksX4_tally_1 9 rfl rfl)
abbrev cX4_redly : ByteArray := prog_21_method_9_code
def yX4_redly : MethodName := ⟨RX4, "redly", "(II)I"⟩
def dkwX4_redly_2 : List UInt8 := [153, 0, 7, 7, 167, 0, 4, 3, 96, 172]
abbrev dktX4_redly_2 : List UInt8 := dkwX4_redly_2 ++ []
def dkwX4_redly_1 : List UInt8 := [180, 0, 13, 28, 46, 16, 7, 160, 0, 7, 4, 167, 0, 4, 3, 62, 42, 27, 28, 182, 0, 119, 29]
abbrev dktX4_redly_1 : List UInt8 := dkwX4_redly_1 ++ dktX4_redly_2
def dkwX4_redly_0 : List UInt8 := [42, 180, 0, 13, 28, 46, 6, 159, 0, 25, 42, 180, 0, 13, 28, 46, 16, 6, 159, 0, 14, 42]
abbrev dktX4_redly_0 : List UInt8 := dkwX4_redly_0 ++ dktX4_redly_1
theorem dksX4_redly_0 : cX4_redly.data.toList.drop 0 = dktX4_redly_0 := by decide +kernel
theorem dksX4_redly_1 : cX4_redly.data.toList.drop 22 = dktX4_redly_1 := dk_seg dksX4_redly_0 22 rfl rfl
theorem dksX4_redly_2 : cX4_redly.data.toList.drop 45 = dktX4_redly_2 := dk_seg dksX4_redly_1 23 rfl rfl
theorem dX4_redly_0 : decode cX4_redly 0 = .ok (.aload_n 0, 1) := dk_42 (dk_at dksX4_redly_0 0 rfl rfl)
theorem dX4_redly_1 : decode cX4_redly 1 = .ok (.getfield 13, 3) := dk_180 0 13 (dk_at dksX4_redly_0 1 rfl rfl)
theorem dX4_redly_4 : decode cX4_redly 4 = .ok (.iload_n 2, 1) := dk_28 (dk_at dksX4_redly_0 4 rfl rfl)
theorem dX4_redly_5 : decode cX4_redly 5 = .ok (.iaload, 1) := dk_46 (dk_at dksX4_redly_0 5 rfl rfl)
theorem dX4_redly_6 : decode cX4_redly 6 = .ok (.iconst 3, 1) := dk_6 (dk_at dksX4_redly_0 6 rfl rfl)
theorem dX4_redly_7 : decode cX4_redly 7 = .ok (.if_icmp .eq 25, 3) := dk_159 0 25 (dk_at dksX4_redly_0 7 rfl rfl)
theorem dX4_redly_10 : decode cX4_redly 10 = .ok (.aload_n 0, 1) := dk_42 (dk_at dksX4_redly_0 10 rfl rfl)
theorem dX4_redly_11 : decode cX4_redly 11 = .ok (.getfield 13, 3) := dk_180 0 13 (dk_at dksX4_redly_0 11 rfl rfl)
theorem dX4_redly_14 : decode cX4_redly 14 = .ok (.iload_n 2, 1) := dk_28 (dk_at dksX4_redly_0 14 rfl rfl)
theorem dX4_redly_15 : decode cX4_redly 15 = .ok (.iaload, 1) := dk_46 (dk_at dksX4_redly_0 15 rfl rfl)
theorem dX4_redly_16 : decode cX4_redly 16 = .ok (.bipush 6, 2) := dk_16 6 (dk_at dksX4_redly_0 16 rfl rfl)
theorem dX4_redly_18 : decode cX4_redly 18 = .ok (.if_icmp .eq 14, 3) := dk_159 0 14 (dk_at dksX4_redly_0 18 rfl rfl)
theorem dX4_redly_21 : decode cX4_redly 21 = .ok (.aload_n 0, 1) := dk_42 (dk_at dksX4_redly_0 21 rfl rfl)
theorem dX4_redly_22 : decode cX4_redly 22 = .ok (.getfield 13, 3) := dk_180 0 13 (dk_at dksX4_redly_1 0 rfl rfl)
theorem dX4_redly_25 : decode cX4_redly 25 = .ok (.iload_n 2, 1) := dk_28 (dk_at dksX4_redly_1 3 rfl rfl)
theorem dX4_redly_26 : decode cX4_redly 26 = .ok (.iaload, 1) := dk_46 (dk_at dksX4_redly_1 4 rfl rfl)
theorem dX4_redly_27 : decode cX4_redly 27 = .ok (.bipush 7, 2) := dk_16 7 (dk_at dksX4_redly_1 5 rfl rfl)
theorem dX4_redly_29 : decode cX4_redly 29 = .ok (.if_icmp .ne 7, 3) := dk_160 0 7 (dk_at dksX4_redly_1 7 rfl rfl)
theorem dX4_redly_32 : decode cX4_redly 32 = .ok (.iconst 1, 1) := dk_4 (dk_at dksX4_redly_1 10 rfl rfl)
theorem dX4_redly_33 : decode cX4_redly 33 = .ok (.goto 4, 3) := dk_167 0 4 (dk_at dksX4_redly_1 11 rfl rfl)
theorem dX4_redly_36 : decode cX4_redly 36 = .ok (.iconst 0, 1) := dk_3 (dk_at dksX4_redly_1 14 rfl rfl)
theorem dX4_redly_37 : decode cX4_redly 37 = .ok (.istore_n 3, 1) := dk_62 (dk_at dksX4_redly_1 15 rfl rfl)
theorem dX4_redly_38 : decode cX4_redly 38 = .ok (.aload_n 0, 1) := dk_42 (dk_at dksX4_redly_1 16 rfl rfl)
theorem dX4_redly_39 : decode cX4_redly 39 = .ok (.iload_n 1, 1) := dk_27 (dk_at dksX4_redly_1 17 rfl rfl)
theorem dX4_redly_40 : decode cX4_redly 40 = .ok (.iload_n 2, 1) := dk_28 (dk_at dksX4_redly_1 18 rfl rfl)
theorem dX4_redly_41 : decode cX4_redly 41 = .ok (.invokevirtual 119, 3) := dk_182 0 119 (dk_at dksX4_redly_1 19 rfl rfl)
theorem dX4_redly_44 : decode cX4_redly 44 = .ok (.iload_n 3, 1) := dk_29 (dk_at dksX4_redly_1 22 rfl rfl)
theorem dX4_redly_45 : decode cX4_redly 45 = .ok (.ifCond .eq 7, 3) := dk_153 0 7 (dk_at dksX4_redly_2 0 rfl rfl)
theorem dX4_redly_48 : decode cX4_redly 48 = .ok (.iconst 4, 1) := dk_7 (dk_at dksX4_redly_2 3 rfl rfl)
theorem dX4_redly_49 : decode cX4_redly 49 = .ok (.goto 4, 3) := dk_167 0 4 (dk_at dksX4_redly_2 4 rfl rfl)
theorem dX4_redly_52 : decode cX4_redly 52 = .ok (.iconst 0, 1) := dk_3 (dk_at dksX4_redly_2 7 rfl rfl)
theorem dX4_redly_53 : decode cX4_redly 53 = .ok (.iadd, 1) := dk_96 (dk_at dksX4_redly_2 8 rfl rfl)
theorem dX4_redly_54 : decode cX4_redly 54 = .ok (.ireturn, 1) := dk_172 (dk_at dksX4_redly_2 9 rfl rfl)
abbrev cX4_isLater : ByteArray := prog_21_method_15_code
def yX4_isLater : MethodName := ⟨RX4, "isLater", "(II)Z"⟩
def dkwX4_isLater_0 : List UInt8 := [42, 180, 0, 26, 27, 46, 42, 180, 0, 26, 28, 46, 164, 0, 7, 4, 167, 0, 4, 3, 172]
abbrev dktX4_isLater_0 : List UInt8 := dkwX4_isLater_0 ++ []
theorem dksX4_isLater_0 : cX4_isLater.data.toList.drop 0 = dktX4_isLater_0 := by decide +kernel
theorem dX4_isLater_0 : decode cX4_isLater 0 = .ok (.aload_n 0, 1) := dk_42 (dk_at dksX4_isLater_0 0 rfl rfl)
theorem dX4_isLater_1 : decode cX4_isLater 1 = .ok (.getfield 26, 3) := dk_180 0 26 (dk_at dksX4_isLater_0 1 rfl rfl)
theorem dX4_isLater_4 : decode cX4_isLater 4 = .ok (.iload_n 1, 1) := dk_27 (dk_at dksX4_isLater_0 4 rfl rfl)
theorem dX4_isLater_5 : decode cX4_isLater 5 = .ok (.iaload, 1) := dk_46 (dk_at dksX4_isLater_0 5 rfl rfl)
theorem dX4_isLater_6 : decode cX4_isLater 6 = .ok (.aload_n 0, 1) := dk_42 (dk_at dksX4_isLater_0 6 rfl rfl)
theorem dX4_isLater_7 : decode cX4_isLater 7 = .ok (.getfield 26, 3) := dk_180 0 26 (dk_at dksX4_isLater_0 7 rfl rfl)
theorem dX4_isLater_10 : decode cX4_isLater 10 = .ok (.iload_n 2, 1) := dk_28 (dk_at dksX4_isLater_0 10 rfl rfl)
theorem dX4_isLater_11 : decode cX4_isLater 11 = .ok (.iaload, 1) := dk_46 (dk_at dksX4_isLater_0 11 rfl rfl)
theorem dX4_isLater_12 : decode cX4_isLater 12 = .ok (.if_icmp .le 7, 3) := dk_164 0 7 (dk_at dksX4_isLater_0 12 rfl rfl)
theorem dX4_isLater_15 : decode cX4_isLater 15 = .ok (.iconst 1, 1) := dk_4 (dk_at dksX4_isLater_0 15 rfl rfl)
theorem dX4_isLater_16 : decode cX4_isLater 16 = .ok (.goto 4, 3) := dk_167 0 4 (dk_at dksX4_isLater_0 16 rfl rfl)
theorem dX4_isLater_19 : decode cX4_isLater 19 = .ok (.iconst 0, 1) := dk_3 (dk_at dksX4_isLater_0 19 rfl rfl)
theorem dX4_isLater_20 : decode cX4_isLater 20 = .ok (.ireturn, 1) := dk_172 (dk_at dksX4_isLater_0 20 rfl rfl)
abbrev cX4_sipOne : ByteArray := prog_21_method_13_code
def yX4_sipOne : MethodName := ⟨RX4, "sipOne", "(I)I"⟩
def dkwX4_sipOne_4 : List UInt8 := [28, 46, 79, 29, 172]
abbrev dktX4_sipOne_4 : List UInt8 := dkwX4_sipOne_4 ++ []
def dkwX4_sipOne_3 : List UInt8 := [79, 42, 180, 0, 32, 28, 42, 180, 0, 59, 27, 46, 4, 160, 0, 7, 4, 167, 0, 9, 42, 180, 0, 32]
abbrev dktX4_sipOne_3 : List UInt8 := dkwX4_sipOne_3 ++ dktX4_sipOne_4
def dkwX4_sipOne_2 : List UInt8 := [180, 0, 59, 27, 42, 180, 0, 32, 28, 46, 4, 160, 0, 7, 4, 167, 0, 9, 42, 180, 0, 59, 27, 46]
abbrev dktX4_sipOne_2 : List UInt8 := dkwX4_sipOne_2 ++ dktX4_sipOne_3
def dkwX4_sipOne_1 : List UInt8 := [180, 0, 56, 27, 92, 46, 29, 96, 79, 42, 180, 0, 29, 28, 92, 46, 4, 27, 120, 128, 79, 42]
abbrev dktX4_sipOne_1 : List UInt8 := dkwX4_sipOne_1 ++ dktX4_sipOne_2
def dkwX4_sipOne_0 : List UInt8 := [42, 180, 0, 50, 27, 46, 61, 42, 28, 182, 0, 129, 62, 42, 180, 0, 20, 28, 92, 46, 4, 100, 79, 42]
abbrev dktX4_sipOne_0 : List UInt8 := dkwX4_sipOne_0 ++ dktX4_sipOne_1
theorem dksX4_sipOne_0 : cX4_sipOne.data.toList.drop 0 = dktX4_sipOne_0 := by decide +kernel
theorem dksX4_sipOne_1 : cX4_sipOne.data.toList.drop 24 = dktX4_sipOne_1 := dk_seg dksX4_sipOne_0 24 rfl rfl
theorem dksX4_sipOne_2 : cX4_sipOne.data.toList.drop 46 = dktX4_sipOne_2 := dk_seg dksX4_sipOne_1 22 rfl rfl
theorem dksX4_sipOne_3 : cX4_sipOne.data.toList.drop 70 = dktX4_sipOne_3 := dk_seg dksX4_sipOne_2 24 rfl rfl
theorem dksX4_sipOne_4 : cX4_sipOne.data.toList.drop 94 = dktX4_sipOne_4 := dk_seg dksX4_sipOne_3 24 rfl rfl
theorem dX4_sipOne_0 : decode cX4_sipOne 0 = .ok (.aload_n 0, 1) := dk_42 (dk_at dksX4_sipOne_0 0 rfl rfl)
theorem dX4_sipOne_1 : decode cX4_sipOne 1 = .ok (.getfield 50, 3) := dk_180 0 50 (dk_at dksX4_sipOne_0 1 rfl rfl)
theorem dX4_sipOne_4 : decode cX4_sipOne 4 = .ok (.iload_n 1, 1) := dk_27 (dk_at dksX4_sipOne_0 4 rfl rfl)
theorem dX4_sipOne_5 : decode cX4_sipOne 5 = .ok (.iaload, 1) := dk_46 (dk_at dksX4_sipOne_0 5 rfl rfl)
theorem dX4_sipOne_6 : decode cX4_sipOne 6 = .ok (.istore_n 2, 1) := dk_61 (dk_at dksX4_sipOne_0 6 rfl rfl)
theorem dX4_sipOne_7 : decode cX4_sipOne 7 = .ok (.aload_n 0, 1) := dk_42 (dk_at dksX4_sipOne_0 7 rfl rfl)
theorem dX4_sipOne_8 : decode cX4_sipOne 8 = .ok (.iload_n 2, 1) := dk_28 (dk_at dksX4_sipOne_0 8 rfl rfl)
theorem dX4_sipOne_9 : decode cX4_sipOne 9 = .ok (.invokevirtual 129, 3) := dk_182 0 129 (dk_at dksX4_sipOne_0 9 rfl rfl)
theorem dX4_sipOne_12 : decode cX4_sipOne 12 = .ok (.istore_n 3, 1) := dk_62 (dk_at dksX4_sipOne_0 12 rfl rfl)
theorem dX4_sipOne_13 : decode cX4_sipOne 13 = .ok (.aload_n 0, 1) := dk_42 (dk_at dksX4_sipOne_0 13 rfl rfl)
theorem dX4_sipOne_14 : decode cX4_sipOne 14 = .ok (.getfield 20, 3) := dk_180 0 20 (dk_at dksX4_sipOne_0 14 rfl rfl)
theorem dX4_sipOne_17 : decode cX4_sipOne 17 = .ok (.iload_n 2, 1) := dk_28 (dk_at dksX4_sipOne_0 17 rfl rfl)
theorem dX4_sipOne_18 : decode cX4_sipOne 18 = .ok (.dup2, 1) := dk_92 (dk_at dksX4_sipOne_0 18 rfl rfl)
theorem dX4_sipOne_19 : decode cX4_sipOne 19 = .ok (.iaload, 1) := dk_46 (dk_at dksX4_sipOne_0 19 rfl rfl)
theorem dX4_sipOne_20 : decode cX4_sipOne 20 = .ok (.iconst 1, 1) := dk_4 (dk_at dksX4_sipOne_0 20 rfl rfl)
theorem dX4_sipOne_21 : decode cX4_sipOne 21 = .ok (.isub, 1) := dk_100 (dk_at dksX4_sipOne_0 21 rfl rfl)
theorem dX4_sipOne_22 : decode cX4_sipOne 22 = .ok (.iastore, 1) := dk_79 (dk_at dksX4_sipOne_0 22 rfl rfl)
theorem dX4_sipOne_23 : decode cX4_sipOne 23 = .ok (.aload_n 0, 1) := dk_42 (dk_at dksX4_sipOne_0 23 rfl rfl)
theorem dX4_sipOne_24 : decode cX4_sipOne 24 = .ok (.getfield 56, 3) := dk_180 0 56 (dk_at dksX4_sipOne_1 0 rfl rfl)
theorem dX4_sipOne_27 : decode cX4_sipOne 27 = .ok (.iload_n 1, 1) := dk_27 (dk_at dksX4_sipOne_1 3 rfl rfl)
theorem dX4_sipOne_28 : decode cX4_sipOne 28 = .ok (.dup2, 1) := dk_92 (dk_at dksX4_sipOne_1 4 rfl rfl)
theorem dX4_sipOne_29 : decode cX4_sipOne 29 = .ok (.iaload, 1) := dk_46 (dk_at dksX4_sipOne_1 5 rfl rfl)
theorem dX4_sipOne_30 : decode cX4_sipOne 30 = .ok (.iload_n 3, 1) := dk_29 (dk_at dksX4_sipOne_1 6 rfl rfl)
theorem dX4_sipOne_31 : decode cX4_sipOne 31 = .ok (.iadd, 1) := dk_96 (dk_at dksX4_sipOne_1 7 rfl rfl)
theorem dX4_sipOne_32 : decode cX4_sipOne 32 = .ok (.iastore, 1) := dk_79 (dk_at dksX4_sipOne_1 8 rfl rfl)
theorem dX4_sipOne_33 : decode cX4_sipOne 33 = .ok (.aload_n 0, 1) := dk_42 (dk_at dksX4_sipOne_1 9 rfl rfl)
theorem dX4_sipOne_34 : decode cX4_sipOne 34 = .ok (.getfield 29, 3) := dk_180 0 29 (dk_at dksX4_sipOne_1 10 rfl rfl)
theorem dX4_sipOne_37 : decode cX4_sipOne 37 = .ok (.iload_n 2, 1) := dk_28 (dk_at dksX4_sipOne_1 13 rfl rfl)
theorem dX4_sipOne_38 : decode cX4_sipOne 38 = .ok (.dup2, 1) := dk_92 (dk_at dksX4_sipOne_1 14 rfl rfl)
theorem dX4_sipOne_39 : decode cX4_sipOne 39 = .ok (.iaload, 1) := dk_46 (dk_at dksX4_sipOne_1 15 rfl rfl)
theorem dX4_sipOne_40 : decode cX4_sipOne 40 = .ok (.iconst 1, 1) := dk_4 (dk_at dksX4_sipOne_1 16 rfl rfl)
theorem dX4_sipOne_41 : decode cX4_sipOne 41 = .ok (.iload_n 1, 1) := dk_27 (dk_at dksX4_sipOne_1 17 rfl rfl)
theorem dX4_sipOne_42 : decode cX4_sipOne 42 = .ok (.ishl, 1) := dk_120 (dk_at dksX4_sipOne_1 18 rfl rfl)
theorem dX4_sipOne_43 : decode cX4_sipOne 43 = .ok (.ior, 1) := dk_128 (dk_at dksX4_sipOne_1 19 rfl rfl)
theorem dX4_sipOne_44 : decode cX4_sipOne 44 = .ok (.iastore, 1) := dk_79 (dk_at dksX4_sipOne_1 20 rfl rfl)
theorem dX4_sipOne_45 : decode cX4_sipOne 45 = .ok (.aload_n 0, 1) := dk_42 (dk_at dksX4_sipOne_1 21 rfl rfl)
theorem dX4_sipOne_46 : decode cX4_sipOne 46 = .ok (.getfield 59, 3) := dk_180 0 59 (dk_at dksX4_sipOne_2 0 rfl rfl)
theorem dX4_sipOne_49 : decode cX4_sipOne 49 = .ok (.iload_n 1, 1) := dk_27 (dk_at dksX4_sipOne_2 3 rfl rfl)
theorem dX4_sipOne_50 : decode cX4_sipOne 50 = .ok (.aload_n 0, 1) := dk_42 (dk_at dksX4_sipOne_2 4 rfl rfl)
theorem dX4_sipOne_51 : decode cX4_sipOne 51 = .ok (.getfield 32, 3) := dk_180 0 32 (dk_at dksX4_sipOne_2 5 rfl rfl)
theorem dX4_sipOne_54 : decode cX4_sipOne 54 = .ok (.iload_n 2, 1) := dk_28 (dk_at dksX4_sipOne_2 8 rfl rfl)
theorem dX4_sipOne_55 : decode cX4_sipOne 55 = .ok (.iaload, 1) := dk_46 (dk_at dksX4_sipOne_2 9 rfl rfl)
theorem dX4_sipOne_56 : decode cX4_sipOne 56 = .ok (.iconst 1, 1) := dk_4 (dk_at dksX4_sipOne_2 10 rfl rfl)
theorem dX4_sipOne_57 : decode cX4_sipOne 57 = .ok (.if_icmp .ne 7, 3) := dk_160 0 7 (dk_at dksX4_sipOne_2 11 rfl rfl)
theorem dX4_sipOne_60 : decode cX4_sipOne 60 = .ok (.iconst 1, 1) := dk_4 (dk_at dksX4_sipOne_2 14 rfl rfl)
theorem dX4_sipOne_61 : decode cX4_sipOne 61 = .ok (.goto 9, 3) := dk_167 0 9 (dk_at dksX4_sipOne_2 15 rfl rfl)
theorem dX4_sipOne_64 : decode cX4_sipOne 64 = .ok (.aload_n 0, 1) := dk_42 (dk_at dksX4_sipOne_2 18 rfl rfl)
theorem dX4_sipOne_65 : decode cX4_sipOne 65 = .ok (.getfield 59, 3) := dk_180 0 59 (dk_at dksX4_sipOne_2 19 rfl rfl)
theorem dX4_sipOne_68 : decode cX4_sipOne 68 = .ok (.iload_n 1, 1) := dk_27 (dk_at dksX4_sipOne_2 22 rfl rfl)
theorem dX4_sipOne_69 : decode cX4_sipOne 69 = .ok (.iaload, 1) := dk_46 (dk_at dksX4_sipOne_2 23 rfl rfl)
theorem dX4_sipOne_70 : decode cX4_sipOne 70 = .ok (.iastore, 1) := dk_79 (dk_at dksX4_sipOne_3 0 rfl rfl)
theorem dX4_sipOne_71 : decode cX4_sipOne 71 = .ok (.aload_n 0, 1) := dk_42 (dk_at dksX4_sipOne_3 1 rfl rfl)
theorem dX4_sipOne_72 : decode cX4_sipOne 72 = .ok (.getfield 32, 3) := dk_180 0 32 (dk_at dksX4_sipOne_3 2 rfl rfl)
theorem dX4_sipOne_75 : decode cX4_sipOne 75 = .ok (.iload_n 2, 1) := dk_28 (dk_at dksX4_sipOne_3 5 rfl rfl)
theorem dX4_sipOne_76 : decode cX4_sipOne 76 = .ok (.aload_n 0, 1) := dk_42 (dk_at dksX4_sipOne_3 6 rfl rfl)
theorem dX4_sipOne_77 : decode cX4_sipOne 77 = .ok (.getfield 59, 3) := dk_180 0 59 (dk_at dksX4_sipOne_3 7 rfl rfl)
theorem dX4_sipOne_80 : decode cX4_sipOne 80 = .ok (.iload_n 1, 1) := dk_27 (dk_at dksX4_sipOne_3 10 rfl rfl)
theorem dX4_sipOne_81 : decode cX4_sipOne 81 = .ok (.iaload, 1) := dk_46 (dk_at dksX4_sipOne_3 11 rfl rfl)
theorem dX4_sipOne_82 : decode cX4_sipOne 82 = .ok (.iconst 1, 1) := dk_4 (dk_at dksX4_sipOne_3 12 rfl rfl)
theorem dX4_sipOne_83 : decode cX4_sipOne 83 = .ok (.if_icmp .ne 7, 3) := dk_160 0 7 (dk_at dksX4_sipOne_3 13 rfl rfl)
theorem dX4_sipOne_86 : decode cX4_sipOne 86 = .ok (.iconst 1, 1) := dk_4 (dk_at dksX4_sipOne_3 16 rfl rfl)
theorem dX4_sipOne_87 : decode cX4_sipOne 87 = .ok (.goto 9, 3) := dk_167 0 9 (dk_at dksX4_sipOne_3 17 rfl rfl)
theorem dX4_sipOne_90 : decode cX4_sipOne 90 = .ok (.aload_n 0, 1) := dk_42 (dk_at dksX4_sipOne_3 20 rfl rfl)
theorem dX4_sipOne_91 : decode cX4_sipOne 91 = .ok (.getfield 32, 3) := dk_180 0 32 (dk_at dksX4_sipOne_3 21 rfl rfl)
theorem dX4_sipOne_94 : decode cX4_sipOne 94 = .ok (.iload_n 2, 1) := dk_28 (dk_at dksX4_sipOne_4 0 rfl rfl)
theorem dX4_sipOne_95 : decode cX4_sipOne 95 = .ok (.iaload, 1) := dk_46 (dk_at dksX4_sipOne_4 1 rfl rfl)
theorem dX4_sipOne_96 : decode cX4_sipOne 96 = .ok (.iastore, 1) := dk_79 (dk_at dksX4_sipOne_4 2 rfl rfl)
theorem dX4_sipOne_97 : decode cX4_sipOne 97 = .ok (.iload_n 3, 1) := dk_29 (dk_at dksX4_sipOne_4 3 rfl rfl)
theorem dX4_sipOne_98 : decode cX4_sipOne 98 = .ok (.ireturn, 1) := dk_172 (dk_at dksX4_sipOne_4 4 rfl rfl)
abbrev cX4_strengthOf : ByteArray := prog_21_method_12_code
def yX4_strengthOf : MethodName := ⟨RX4, "strengthOf", "(I)I"⟩
def dkwX4_strengthOf_4 : List UInt8 := [172, 5, 172]
abbrev dktX4_strengthOf_4 : List UInt8 := dkwX4_strengthOf_4 ++ []
def dkwX4_strengthOf_3 : List UInt8 := [160, 0, 7, 3, 167, 0, 11, 5, 42, 180, 0, 17, 27, 46, 96, 172, 6, 42, 180, 0, 17, 27, 46, 96]
abbrev dktX4_strengthOf_3 : List UInt8 := dkwX4_strengthOf_3 ++ dktX4_strengthOf_4
def dkwX4_strengthOf_2 : List UInt8 := [4, 172, 5, 42, 180, 0, 17, 27, 46, 96, 172, 3, 172, 42, 180, 0, 20, 27, 46, 5, 112, 4]
abbrev dktX4_strengthOf_2 : List UInt8 := dkwX4_strengthOf_2 ++ dktX4_strengthOf_3
def dkwX4_strengthOf_1 : List UInt8 := [170, 0, 0, 0, 0, 85, 0, 0, 0, 2, 0, 0, 0, 7, 0, 0, 0, 38, 0, 0, 0, 40, 0, 0, 0, 49, 0, 0, 0, 85, 0, 0, 0, 51, 0, 0, 0, 76]
abbrev dktX4_strengthOf_1 : List UInt8 := dkwX4_strengthOf_1 ++ dktX4_strengthOf_2
def dkwX4_strengthOf_0 : List UInt8 := [42, 180, 0, 13, 27, 46]
abbrev dktX4_strengthOf_0 : List UInt8 := dkwX4_strengthOf_0 ++ dktX4_strengthOf_1
theorem dksX4_strengthOf_0 : cX4_strengthOf.data.toList.drop 0 = dktX4_strengthOf_0 := by decide +kernel
theorem dksX4_strengthOf_1 : cX4_strengthOf.data.toList.drop 6 = dktX4_strengthOf_1 := dk_seg dksX4_strengthOf_0 6 rfl rfl
theorem dksX4_strengthOf_2 : cX4_strengthOf.data.toList.drop 44 = dktX4_strengthOf_2 := dk_seg dksX4_strengthOf_1 38 rfl rfl
theorem dksX4_strengthOf_3 : cX4_strengthOf.data.toList.drop 66 = dktX4_strengthOf_3 := dk_seg dksX4_strengthOf_2 22 rfl rfl
theorem dksX4_strengthOf_4 : cX4_strengthOf.data.toList.drop 90 = dktX4_strengthOf_4 := dk_seg dksX4_strengthOf_3 24 rfl rfl
theorem dX4_strengthOf_0 : decode cX4_strengthOf 0 = .ok (.aload_n 0, 1) := dk_42 (dk_at dksX4_strengthOf_0 0 rfl rfl)
theorem dX4_strengthOf_1 : decode cX4_strengthOf 1 = .ok (.getfield 13, 3) := dk_180 0 13 (dk_at dksX4_strengthOf_0 1 rfl rfl)
theorem dX4_strengthOf_4 : decode cX4_strengthOf 4 = .ok (.iload_n 1, 1) := dk_27 (dk_at dksX4_strengthOf_0 4 rfl rfl)
theorem dX4_strengthOf_5 : decode cX4_strengthOf 5 = .ok (.iaload, 1) := dk_46 (dk_at dksX4_strengthOf_0 5 rfl rfl)
theorem dX4_strengthOf_6 : decode cX4_strengthOf 6 = .ok (.tableswitch 85 2 7 #[38, 40, 49, 85, 51, 76], 38) := by decide +kernel
theorem dX4_strengthOf_44 : decode cX4_strengthOf 44 = .ok (.iconst 1, 1) := dk_4 (dk_at dksX4_strengthOf_2 0 rfl rfl)
theorem dX4_strengthOf_45 : decode cX4_strengthOf 45 = .ok (.ireturn, 1) := dk_172 (dk_at dksX4_strengthOf_2 1 rfl rfl)
theorem dX4_strengthOf_46 : decode cX4_strengthOf 46 = .ok (.iconst 2, 1) := dk_5 (dk_at dksX4_strengthOf_2 2 rfl rfl)
theorem dX4_strengthOf_47 : decode cX4_strengthOf 47 = .ok (.aload_n 0, 1) := dk_42 (dk_at dksX4_strengthOf_2 3 rfl rfl)
theorem dX4_strengthOf_48 : decode cX4_strengthOf 48 = .ok (.getfield 17, 3) := dk_180 0 17 (dk_at dksX4_strengthOf_2 4 rfl rfl)
theorem dX4_strengthOf_51 : decode cX4_strengthOf 51 = .ok (.iload_n 1, 1) := dk_27 (dk_at dksX4_strengthOf_2 7 rfl rfl)
theorem dX4_strengthOf_52 : decode cX4_strengthOf 52 = .ok (.iaload, 1) := dk_46 (dk_at dksX4_strengthOf_2 8 rfl rfl)
theorem dX4_strengthOf_53 : decode cX4_strengthOf 53 = .ok (.iadd, 1) := dk_96 (dk_at dksX4_strengthOf_2 9 rfl rfl)
theorem dX4_strengthOf_54 : decode cX4_strengthOf 54 = .ok (.ireturn, 1) := dk_172 (dk_at dksX4_strengthOf_2 10 rfl rfl)
theorem dX4_strengthOf_55 : decode cX4_strengthOf 55 = .ok (.iconst 0, 1) := dk_3 (dk_at dksX4_strengthOf_2 11 rfl rfl)
theorem dX4_strengthOf_56 : decode cX4_strengthOf 56 = .ok (.ireturn, 1) := dk_172 (dk_at dksX4_strengthOf_2 12 rfl rfl)
theorem dX4_strengthOf_57 : decode cX4_strengthOf 57 = .ok (.aload_n 0, 1) := dk_42 (dk_at dksX4_strengthOf_2 13 rfl rfl)
theorem dX4_strengthOf_58 : decode cX4_strengthOf 58 = .ok (.getfield 20, 3) := dk_180 0 20 (dk_at dksX4_strengthOf_2 14 rfl rfl)
theorem dX4_strengthOf_61 : decode cX4_strengthOf 61 = .ok (.iload_n 1, 1) := dk_27 (dk_at dksX4_strengthOf_2 17 rfl rfl)
theorem dX4_strengthOf_62 : decode cX4_strengthOf 62 = .ok (.iaload, 1) := dk_46 (dk_at dksX4_strengthOf_2 18 rfl rfl)
theorem dX4_strengthOf_63 : decode cX4_strengthOf 63 = .ok (.iconst 2, 1) := dk_5 (dk_at dksX4_strengthOf_2 19 rfl rfl)
theorem dX4_strengthOf_64 : decode cX4_strengthOf 64 = .ok (.irem, 1) := dk_112 (dk_at dksX4_strengthOf_2 20 rfl rfl)
theorem dX4_strengthOf_65 : decode cX4_strengthOf 65 = .ok (.iconst 1, 1) := dk_4 (dk_at dksX4_strengthOf_2 21 rfl rfl)
theorem dX4_strengthOf_66 : decode cX4_strengthOf 66 = .ok (.if_icmp .ne 7, 3) := dk_160 0 7 (dk_at dksX4_strengthOf_3 0 rfl rfl)
theorem dX4_strengthOf_69 : decode cX4_strengthOf 69 = .ok (.iconst 0, 1) := dk_3 (dk_at dksX4_strengthOf_3 3 rfl rfl)
theorem dX4_strengthOf_70 : decode cX4_strengthOf 70 = .ok (.goto 11, 3) := dk_167 0 11 (dk_at dksX4_strengthOf_3 4 rfl rfl)
theorem dX4_strengthOf_73 : decode cX4_strengthOf 73 = .ok (.iconst 2, 1) := dk_5 (dk_at dksX4_strengthOf_3 7 rfl rfl)
theorem dX4_strengthOf_74 : decode cX4_strengthOf 74 = .ok (.aload_n 0, 1) := dk_42 (dk_at dksX4_strengthOf_3 8 rfl rfl)
theorem dX4_strengthOf_75 : decode cX4_strengthOf 75 = .ok (.getfield 17, 3) := dk_180 0 17 (dk_at dksX4_strengthOf_3 9 rfl rfl)
theorem dX4_strengthOf_78 : decode cX4_strengthOf 78 = .ok (.iload_n 1, 1) := dk_27 (dk_at dksX4_strengthOf_3 12 rfl rfl)
theorem dX4_strengthOf_79 : decode cX4_strengthOf 79 = .ok (.iaload, 1) := dk_46 (dk_at dksX4_strengthOf_3 13 rfl rfl)
theorem dX4_strengthOf_80 : decode cX4_strengthOf 80 = .ok (.iadd, 1) := dk_96 (dk_at dksX4_strengthOf_3 14 rfl rfl)
theorem dX4_strengthOf_81 : decode cX4_strengthOf 81 = .ok (.ireturn, 1) := dk_172 (dk_at dksX4_strengthOf_3 15 rfl rfl)
theorem dX4_strengthOf_82 : decode cX4_strengthOf 82 = .ok (.iconst 3, 1) := dk_6 (dk_at dksX4_strengthOf_3 16 rfl rfl)
theorem dX4_strengthOf_83 : decode cX4_strengthOf 83 = .ok (.aload_n 0, 1) := dk_42 (dk_at dksX4_strengthOf_3 17 rfl rfl)
theorem dX4_strengthOf_84 : decode cX4_strengthOf 84 = .ok (.getfield 17, 3) := dk_180 0 17 (dk_at dksX4_strengthOf_3 18 rfl rfl)
theorem dX4_strengthOf_87 : decode cX4_strengthOf 87 = .ok (.iload_n 1, 1) := dk_27 (dk_at dksX4_strengthOf_3 21 rfl rfl)
theorem dX4_strengthOf_88 : decode cX4_strengthOf 88 = .ok (.iaload, 1) := dk_46 (dk_at dksX4_strengthOf_3 22 rfl rfl)
theorem dX4_strengthOf_89 : decode cX4_strengthOf 89 = .ok (.iadd, 1) := dk_96 (dk_at dksX4_strengthOf_3 23 rfl rfl)
theorem dX4_strengthOf_90 : decode cX4_strengthOf 90 = .ok (.ireturn, 1) := dk_172 (dk_at dksX4_strengthOf_4 0 rfl rfl)
theorem dX4_strengthOf_91 : decode cX4_strengthOf 91 = .ok (.iconst 2, 1) := dk_5 (dk_at dksX4_strengthOf_4 1 rfl rfl)
theorem dX4_strengthOf_92 : decode cX4_strengthOf 92 = .ok (.ireturn, 1) := dk_172 (dk_at dksX4_strengthOf_4 2 rfl rfl)
abbrev cX4_layOne : ByteArray := prog_21_method_14_code
def yX4_layOne : MethodName := ⟨RX4, "layOne", "(I)I"⟩
def dkwX4_layOne_1 : List UInt8 := [42, 180, 0, 133, 79, 42, 180, 0, 50, 27, 16, 252, 79, 28, 172]
abbrev dktX4_layOne_1 : List UInt8 := dkwX4_layOne_1 ++ []
def dkwX4_layOne_0 : List UInt8 := [42, 180, 0, 50, 27, 46, 61, 42, 180, 0, 23, 28, 42, 180, 0, 47, 27, 46, 79, 42, 180, 0, 26, 28]
abbrev dktX4_layOne_0 : List UInt8 := dkwX4_layOne_0 ++ dktX4_layOne_1
theorem dksX4_layOne_0 : cX4_layOne.data.toList.drop 0 = dktX4_layOne_0 := by decide +kernel
theorem dksX4_layOne_1 : cX4_layOne.data.toList.drop 24 = dktX4_layOne_1 := dk_seg dksX4_layOne_0 24 rfl rfl
theorem dX4_layOne_0 : decode cX4_layOne 0 = .ok (.aload_n 0, 1) := dk_42 (dk_at dksX4_layOne_0 0 rfl rfl)
theorem dX4_layOne_1 : decode cX4_layOne 1 = .ok (.getfield 50, 3) := dk_180 0 50 (dk_at dksX4_layOne_0 1 rfl rfl)
theorem dX4_layOne_4 : decode cX4_layOne 4 = .ok (.iload_n 1, 1) := dk_27 (dk_at dksX4_layOne_0 4 rfl rfl)
theorem dX4_layOne_5 : decode cX4_layOne 5 = .ok (.iaload, 1) := dk_46 (dk_at dksX4_layOne_0 5 rfl rfl)
theorem dX4_layOne_6 : decode cX4_layOne 6 = .ok (.istore_n 2, 1) := dk_61 (dk_at dksX4_layOne_0 6 rfl rfl)
theorem dX4_layOne_7 : decode cX4_layOne 7 = .ok (.aload_n 0, 1) := dk_42 (dk_at dksX4_layOne_0 7 rfl rfl)
theorem dX4_layOne_8 : decode cX4_layOne 8 = .ok (.getfield 23, 3) := dk_180 0 23 (dk_at dksX4_layOne_0 8 rfl rfl)
theorem dX4_layOne_11 : decode cX4_layOne 11 = .ok (.iload_n 2, 1) := dk_28 (dk_at dksX4_layOne_0 11 rfl rfl)
theorem dX4_layOne_12 : decode cX4_layOne 12 = .ok (.aload_n 0, 1) := dk_42 (dk_at dksX4_layOne_0 12 rfl rfl)
theorem dX4_layOne_13 : decode cX4_layOne 13 = .ok (.getfield 47, 3) := dk_180 0 47 (dk_at dksX4_layOne_0 13 rfl rfl)
theorem dX4_layOne_16 : decode cX4_layOne 16 = .ok (.iload_n 1, 1) := dk_27 (dk_at dksX4_layOne_0 16 rfl rfl)
theorem dX4_layOne_17 : decode cX4_layOne 17 = .ok (.iaload, 1) := dk_46 (dk_at dksX4_layOne_0 17 rfl rfl)
theorem dX4_layOne_18 : decode cX4_layOne 18 = .ok (.iastore, 1) := dk_79 (dk_at dksX4_layOne_0 18 rfl rfl)
theorem dX4_layOne_19 : decode cX4_layOne 19 = .ok (.aload_n 0, 1) := dk_42 (dk_at dksX4_layOne_0 19 rfl rfl)
theorem dX4_layOne_20 : decode cX4_layOne 20 = .ok (.getfield 26, 3) := dk_180 0 26 (dk_at dksX4_layOne_0 20 rfl rfl)
theorem dX4_layOne_23 : decode cX4_layOne 23 = .ok (.iload_n 2, 1) := dk_28 (dk_at dksX4_layOne_0 23 rfl rfl)
theorem dX4_layOne_24 : decode cX4_layOne 24 = .ok (.aload_n 0, 1) := dk_42 (dk_at dksX4_layOne_1 0 rfl rfl)
theorem dX4_layOne_25 : decode cX4_layOne 25 = .ok (.getfield 133, 3) := dk_180 0 133 (dk_at dksX4_layOne_1 1 rfl rfl)
theorem dX4_layOne_28 : decode cX4_layOne 28 = .ok (.iastore, 1) := dk_79 (dk_at dksX4_layOne_1 4 rfl rfl)
theorem dX4_layOne_29 : decode cX4_layOne 29 = .ok (.aload_n 0, 1) := dk_42 (dk_at dksX4_layOne_1 5 rfl rfl)
theorem dX4_layOne_30 : decode cX4_layOne 30 = .ok (.getfield 50, 3) := dk_180 0 50 (dk_at dksX4_layOne_1 6 rfl rfl)
theorem dX4_layOne_33 : decode cX4_layOne 33 = .ok (.iload_n 1, 1) := dk_27 (dk_at dksX4_layOne_1 9 rfl rfl)
theorem dX4_layOne_34 : decode cX4_layOne 34 = .ok (.bipush (-4), 2) := dk_16 252 (dk_at dksX4_layOne_1 10 rfl rfl)
theorem dX4_layOne_36 : decode cX4_layOne 36 = .ok (.iastore, 1) := dk_79 (dk_at dksX4_layOne_1 12 rfl rfl)
theorem dX4_layOne_37 : decode cX4_layOne 37 = .ok (.iload_n 2, 1) := dk_28 (dk_at dksX4_layOne_1 13 rfl rfl)
theorem dX4_layOne_38 : decode cX4_layOne 38 = .ok (.ireturn, 1) := dk_172 (dk_at dksX4_layOne_1 14 rfl rfl)
abbrev cX4_again : ByteArray := prog_21_method_26_code
def yX4_again : MethodName := ⟨RX4, "again", "()V"⟩
def dkwX4_again_0 : List UInt8 := [42, 42, 180, 0, 65, 3, 182, 0, 189, 177]
abbrev dktX4_again_0 : List UInt8 := dkwX4_again_0 ++ []
theorem dksX4_again_0 : cX4_again.data.toList.drop 0 = dktX4_again_0 := by decide +kernel
theorem dX4_again_0 : decode cX4_again 0 = .ok (.aload_n 0, 1) := dk_42 (dk_at dksX4_again_0 0 rfl rfl)
theorem dX4_again_1 : decode cX4_again 1 = .ok (.aload_n 0, 1) := dk_42 (dk_at dksX4_again_0 1 rfl rfl)
theorem dX4_again_2 : decode cX4_again 2 = .ok (.getfield 65, 3) := dk_180 0 65 (dk_at dksX4_again_0 2 rfl rfl)
theorem dX4_again_5 : decode cX4_again 5 = .ok (.iconst 0, 1) := dk_3 (dk_at dksX4_again_0 5 rfl rfl)
theorem dX4_again_6 : decode cX4_again 6 = .ok (.invokevirtual 189, 3) := dk_182 0 189 (dk_at dksX4_again_0 6 rfl rfl)
theorem dX4_again_9 : decode cX4_again 9 = .ok (.return_, 1) := dk_177 (dk_at dksX4_again_0 9 rfl rfl)
abbrev cX4_glass : ByteArray := prog_21_method_39_code
def yX4_glass : MethodName := ⟨RX4, "glass", "(II)I"⟩
def dkwX4_glass_5 : List UInt8 := [27, 46, 172]
abbrev dktX4_glass_5 : List UInt8 := dkwX4_glass_5 ++ []
def dkwX4_glass_4 : List UInt8 := [180, 0, 23, 27, 46, 172, 42, 180, 0, 29, 27, 46, 172, 42, 180, 0, 32, 27, 46, 172, 42, 180, 0, 26]
abbrev dktX4_glass_4 : List UInt8 := dkwX4_glass_4 ++ dktX4_glass_5
def dkwX4_glass_3 : List UInt8 := [42, 180, 0, 13, 27, 46, 172, 42, 180, 0, 17, 27, 46, 172, 42, 180, 0, 20, 27, 46, 172, 42]
abbrev dktX4_glass_3 : List UInt8 := dkwX4_glass_3 ++ dktX4_glass_4
def dkwX4_glass_2 : List UInt8 := [170, 0, 0, 0, 0, 0, 0, 82, 0, 0, 0, 0, 0, 0, 0, 5, 0, 0, 0, 40, 0, 0, 0, 47, 0, 0, 0, 54, 0, 0, 0, 61, 0, 0, 0, 68, 0, 0, 0, 75]
abbrev dktX4_glass_2 : List UInt8 := dkwX4_glass_2 ++ dktX4_glass_3
def dkwX4_glass_1 : List UInt8 := [154, 0, 5, 2, 172, 28]
abbrev dktX4_glass_1 : List UInt8 := dkwX4_glass_1 ++ dktX4_glass_2
def dkwX4_glass_0 : List UInt8 := [42, 3, 181, 0, 102, 42, 27, 182, 0, 232, 153, 0, 15, 28, 133, 9, 20, 1, 3, 184, 0, 108]
abbrev dktX4_glass_0 : List UInt8 := dkwX4_glass_0 ++ dktX4_glass_1
theorem dksX4_glass_0 : cX4_glass.data.toList.drop 0 = dktX4_glass_0 := by decide +kernel
theorem dksX4_glass_1 : cX4_glass.data.toList.drop 22 = dktX4_glass_1 := dk_seg dksX4_glass_0 22 rfl rfl
theorem dksX4_glass_2 : cX4_glass.data.toList.drop 28 = dktX4_glass_2 := dk_seg dksX4_glass_1 6 rfl rfl
theorem dksX4_glass_3 : cX4_glass.data.toList.drop 68 = dktX4_glass_3 := dk_seg dksX4_glass_2 40 rfl rfl
theorem dksX4_glass_4 : cX4_glass.data.toList.drop 90 = dktX4_glass_4 := dk_seg dksX4_glass_3 22 rfl rfl
theorem dksX4_glass_5 : cX4_glass.data.toList.drop 114 = dktX4_glass_5 := dk_seg dksX4_glass_4 24 rfl rfl
theorem dX4_glass_0 : decode cX4_glass 0 = .ok (.aload_n 0, 1) := dk_42 (dk_at dksX4_glass_0 0 rfl rfl)
theorem dX4_glass_1 : decode cX4_glass 1 = .ok (.iconst 0, 1) := dk_3 (dk_at dksX4_glass_0 1 rfl rfl)
theorem dX4_glass_2 : decode cX4_glass 2 = .ok (.putfield 102, 3) := dk_181 0 102 (dk_at dksX4_glass_0 2 rfl rfl)
theorem dX4_glass_5 : decode cX4_glass 5 = .ok (.aload_n 0, 1) := dk_42 (dk_at dksX4_glass_0 5 rfl rfl)
theorem dX4_glass_6 : decode cX4_glass 6 = .ok (.iload_n 1, 1) := dk_27 (dk_at dksX4_glass_0 6 rfl rfl)
theorem dX4_glass_7 : decode cX4_glass 7 = .ok (.invokevirtual 232, 3) := dk_182 0 232 (dk_at dksX4_glass_0 7 rfl rfl)
theorem dX4_glass_10 : decode cX4_glass 10 = .ok (.ifCond .eq 15, 3) := dk_153 0 15 (dk_at dksX4_glass_0 10 rfl rfl)
theorem dX4_glass_13 : decode cX4_glass 13 = .ok (.iload_n 2, 1) := dk_28 (dk_at dksX4_glass_0 13 rfl rfl)
theorem dX4_glass_14 : decode cX4_glass 14 = .ok (.i2l, 1) := dk_133 (dk_at dksX4_glass_0 14 rfl rfl)
theorem dX4_glass_15 : decode cX4_glass 15 = .ok (.lconst 0, 1) := dk_9 (dk_at dksX4_glass_0 15 rfl rfl)
theorem dX4_glass_16 : decode cX4_glass 16 = .ok (.ldc2_w 259, 3) := dk_20 1 3 (dk_at dksX4_glass_0 16 rfl rfl)
theorem dX4_glass_19 : decode cX4_glass 19 = .ok (.invokestatic 108, 3) := dk_184 0 108 (dk_at dksX4_glass_0 19 rfl rfl)
theorem dX4_glass_22 : decode cX4_glass 22 = .ok (.ifCond .ne 5, 3) := dk_154 0 5 (dk_at dksX4_glass_1 0 rfl rfl)
theorem dX4_glass_25 : decode cX4_glass 25 = .ok (.iconst (-1), 1) := dk_2 (dk_at dksX4_glass_1 3 rfl rfl)
theorem dX4_glass_26 : decode cX4_glass 26 = .ok (.ireturn, 1) := dk_172 (dk_at dksX4_glass_1 4 rfl rfl)
theorem dX4_glass_27 : decode cX4_glass 27 = .ok (.iload_n 2, 1) := dk_28 (dk_at dksX4_glass_1 5 rfl rfl)
theorem dX4_glass_28 : decode cX4_glass 28 = .ok (.tableswitch 82 0 5 #[40, 47, 54, 61, 68, 75], 40) := by decide +kernel
theorem dX4_glass_68 : decode cX4_glass 68 = .ok (.aload_n 0, 1) := dk_42 (dk_at dksX4_glass_3 0 rfl rfl)
theorem dX4_glass_69 : decode cX4_glass 69 = .ok (.getfield 13, 3) := dk_180 0 13 (dk_at dksX4_glass_3 1 rfl rfl)
theorem dX4_glass_72 : decode cX4_glass 72 = .ok (.iload_n 1, 1) := dk_27 (dk_at dksX4_glass_3 4 rfl rfl)
theorem dX4_glass_73 : decode cX4_glass 73 = .ok (.iaload, 1) := dk_46 (dk_at dksX4_glass_3 5 rfl rfl)
theorem dX4_glass_74 : decode cX4_glass 74 = .ok (.ireturn, 1) := dk_172 (dk_at dksX4_glass_3 6 rfl rfl)
theorem dX4_glass_75 : decode cX4_glass 75 = .ok (.aload_n 0, 1) := dk_42 (dk_at dksX4_glass_3 7 rfl rfl)
theorem dX4_glass_76 : decode cX4_glass 76 = .ok (.getfield 17, 3) := dk_180 0 17 (dk_at dksX4_glass_3 8 rfl rfl)
theorem dX4_glass_79 : decode cX4_glass 79 = .ok (.iload_n 1, 1) := dk_27 (dk_at dksX4_glass_3 11 rfl rfl)
theorem dX4_glass_80 : decode cX4_glass 80 = .ok (.iaload, 1) := dk_46 (dk_at dksX4_glass_3 12 rfl rfl)
theorem dX4_glass_81 : decode cX4_glass 81 = .ok (.ireturn, 1) := dk_172 (dk_at dksX4_glass_3 13 rfl rfl)
theorem dX4_glass_82 : decode cX4_glass 82 = .ok (.aload_n 0, 1) := dk_42 (dk_at dksX4_glass_3 14 rfl rfl)
theorem dX4_glass_83 : decode cX4_glass 83 = .ok (.getfield 20, 3) := dk_180 0 20 (dk_at dksX4_glass_3 15 rfl rfl)
theorem dX4_glass_86 : decode cX4_glass 86 = .ok (.iload_n 1, 1) := dk_27 (dk_at dksX4_glass_3 18 rfl rfl)
theorem dX4_glass_87 : decode cX4_glass 87 = .ok (.iaload, 1) := dk_46 (dk_at dksX4_glass_3 19 rfl rfl)
theorem dX4_glass_88 : decode cX4_glass 88 = .ok (.ireturn, 1) := dk_172 (dk_at dksX4_glass_3 20 rfl rfl)
theorem dX4_glass_89 : decode cX4_glass 89 = .ok (.aload_n 0, 1) := dk_42 (dk_at dksX4_glass_3 21 rfl rfl)
theorem dX4_glass_90 : decode cX4_glass 90 = .ok (.getfield 23, 3) := dk_180 0 23 (dk_at dksX4_glass_4 0 rfl rfl)
theorem dX4_glass_93 : decode cX4_glass 93 = .ok (.iload_n 1, 1) := dk_27 (dk_at dksX4_glass_4 3 rfl rfl)
theorem dX4_glass_94 : decode cX4_glass 94 = .ok (.iaload, 1) := dk_46 (dk_at dksX4_glass_4 4 rfl rfl)
theorem dX4_glass_95 : decode cX4_glass 95 = .ok (.ireturn, 1) := dk_172 (dk_at dksX4_glass_4 5 rfl rfl)
theorem dX4_glass_96 : decode cX4_glass 96 = .ok (.aload_n 0, 1) := dk_42 (dk_at dksX4_glass_4 6 rfl rfl)
theorem dX4_glass_97 : decode cX4_glass 97 = .ok (.getfield 29, 3) := dk_180 0 29 (dk_at dksX4_glass_4 7 rfl rfl)
theorem dX4_glass_100 : decode cX4_glass 100 = .ok (.iload_n 1, 1) := dk_27 (dk_at dksX4_glass_4 10 rfl rfl)
theorem dX4_glass_101 : decode cX4_glass 101 = .ok (.iaload, 1) := dk_46 (dk_at dksX4_glass_4 11 rfl rfl)
theorem dX4_glass_102 : decode cX4_glass 102 = .ok (.ireturn, 1) := dk_172 (dk_at dksX4_glass_4 12 rfl rfl)
theorem dX4_glass_103 : decode cX4_glass 103 = .ok (.aload_n 0, 1) := dk_42 (dk_at dksX4_glass_4 13 rfl rfl)
theorem dX4_glass_104 : decode cX4_glass 104 = .ok (.getfield 32, 3) := dk_180 0 32 (dk_at dksX4_glass_4 14 rfl rfl)
theorem dX4_glass_107 : decode cX4_glass 107 = .ok (.iload_n 1, 1) := dk_27 (dk_at dksX4_glass_4 17 rfl rfl)
theorem dX4_glass_108 : decode cX4_glass 108 = .ok (.iaload, 1) := dk_46 (dk_at dksX4_glass_4 18 rfl rfl)
theorem dX4_glass_109 : decode cX4_glass 109 = .ok (.ireturn, 1) := dk_172 (dk_at dksX4_glass_4 19 rfl rfl)
theorem dX4_glass_110 : decode cX4_glass 110 = .ok (.aload_n 0, 1) := dk_42 (dk_at dksX4_glass_4 20 rfl rfl)
theorem dX4_glass_111 : decode cX4_glass 111 = .ok (.getfield 26, 3) := dk_180 0 26 (dk_at dksX4_glass_4 21 rfl rfl)
theorem dX4_glass_114 : decode cX4_glass 114 = .ok (.iload_n 1, 1) := dk_27 (dk_at dksX4_glass_5 0 rfl rfl)
theorem dX4_glass_115 : decode cX4_glass 115 = .ok (.iaload, 1) := dk_46 (dk_at dksX4_glass_5 1 rfl rfl)
theorem dX4_glass_116 : decode cX4_glass 116 = .ok (.ireturn, 1) := dk_172 (dk_at dksX4_glass_5 2 rfl rfl)
abbrev cX4_guest : ByteArray := prog_21_method_40_code
def yX4_guest : MethodName := ⟨RX4, "guest", "(II)I"⟩
def dkwX4_guest_5 : List UInt8 := [27, 46, 172, 42, 180, 0, 56, 27, 46, 172, 42, 180, 0, 59, 27, 46, 172]
abbrev dktX4_guest_5 : List UInt8 := dkwX4_guest_5 ++ []
def dkwX4_guest_4 : List UInt8 := [180, 0, 44, 27, 46, 172, 42, 180, 0, 47, 27, 46, 172, 42, 180, 0, 50, 27, 46, 172, 42, 180, 0, 53]
abbrev dktX4_guest_4 : List UInt8 := dkwX4_guest_4 ++ dktX4_guest_5
def dkwX4_guest_3 : List UInt8 := [42, 180, 0, 35, 27, 46, 172, 42, 180, 0, 38, 27, 46, 172, 42, 180, 0, 41, 27, 46, 172, 42]
abbrev dktX4_guest_3 : List UInt8 := dkwX4_guest_3 ++ dktX4_guest_4
def dkwX4_guest_2 : List UInt8 := [170, 0, 0, 0, 0, 0, 0, 104, 0, 0, 0, 0, 0, 0, 0, 7, 0, 0, 0, 48, 0, 0, 0, 55, 0, 0, 0, 62, 0, 0, 0, 69, 0, 0, 0, 76, 0, 0, 0, 83, 0, 0, 0, 90, 0, 0, 0, 97]
abbrev dktX4_guest_2 : List UInt8 := dkwX4_guest_2 ++ dktX4_guest_3
def dkwX4_guest_1 : List UInt8 := [154, 0, 5, 2, 172, 28]
abbrev dktX4_guest_1 : List UInt8 := dkwX4_guest_1 ++ dktX4_guest_2
def dkwX4_guest_0 : List UInt8 := [42, 3, 181, 0, 102, 42, 27, 182, 0, 228, 153, 0, 15, 28, 133, 9, 20, 1, 5, 184, 0, 108]
abbrev dktX4_guest_0 : List UInt8 := dkwX4_guest_0 ++ dktX4_guest_1
theorem dksX4_guest_0 : cX4_guest.data.toList.drop 0 = dktX4_guest_0 := by decide +kernel
theorem dksX4_guest_1 : cX4_guest.data.toList.drop 22 = dktX4_guest_1 := dk_seg dksX4_guest_0 22 rfl rfl
theorem dksX4_guest_2 : cX4_guest.data.toList.drop 28 = dktX4_guest_2 := dk_seg dksX4_guest_1 6 rfl rfl
theorem dksX4_guest_3 : cX4_guest.data.toList.drop 76 = dktX4_guest_3 := dk_seg dksX4_guest_2 48 rfl rfl
theorem dksX4_guest_4 : cX4_guest.data.toList.drop 98 = dktX4_guest_4 := dk_seg dksX4_guest_3 22 rfl rfl
theorem dksX4_guest_5 : cX4_guest.data.toList.drop 122 = dktX4_guest_5 := dk_seg dksX4_guest_4 24 rfl rfl
theorem dX4_guest_0 : decode cX4_guest 0 = .ok (.aload_n 0, 1) := dk_42 (dk_at dksX4_guest_0 0 rfl rfl)
theorem dX4_guest_1 : decode cX4_guest 1 = .ok (.iconst 0, 1) := dk_3 (dk_at dksX4_guest_0 1 rfl rfl)
theorem dX4_guest_2 : decode cX4_guest 2 = .ok (.putfield 102, 3) := dk_181 0 102 (dk_at dksX4_guest_0 2 rfl rfl)
theorem dX4_guest_5 : decode cX4_guest 5 = .ok (.aload_n 0, 1) := dk_42 (dk_at dksX4_guest_0 5 rfl rfl)
theorem dX4_guest_6 : decode cX4_guest 6 = .ok (.iload_n 1, 1) := dk_27 (dk_at dksX4_guest_0 6 rfl rfl)
theorem dX4_guest_7 : decode cX4_guest 7 = .ok (.invokevirtual 228, 3) := dk_182 0 228 (dk_at dksX4_guest_0 7 rfl rfl)
theorem dX4_guest_10 : decode cX4_guest 10 = .ok (.ifCond .eq 15, 3) := dk_153 0 15 (dk_at dksX4_guest_0 10 rfl rfl)
theorem dX4_guest_13 : decode cX4_guest 13 = .ok (.iload_n 2, 1) := dk_28 (dk_at dksX4_guest_0 13 rfl rfl)
theorem dX4_guest_14 : decode cX4_guest 14 = .ok (.i2l, 1) := dk_133 (dk_at dksX4_guest_0 14 rfl rfl)
theorem dX4_guest_15 : decode cX4_guest 15 = .ok (.lconst 0, 1) := dk_9 (dk_at dksX4_guest_0 15 rfl rfl)
theorem dX4_guest_16 : decode cX4_guest 16 = .ok (.ldc2_w 261, 3) := dk_20 1 5 (dk_at dksX4_guest_0 16 rfl rfl)
theorem dX4_guest_19 : decode cX4_guest 19 = .ok (.invokestatic 108, 3) := dk_184 0 108 (dk_at dksX4_guest_0 19 rfl rfl)
theorem dX4_guest_22 : decode cX4_guest 22 = .ok (.ifCond .ne 5, 3) := dk_154 0 5 (dk_at dksX4_guest_1 0 rfl rfl)
theorem dX4_guest_25 : decode cX4_guest 25 = .ok (.iconst (-1), 1) := dk_2 (dk_at dksX4_guest_1 3 rfl rfl)
theorem dX4_guest_26 : decode cX4_guest 26 = .ok (.ireturn, 1) := dk_172 (dk_at dksX4_guest_1 4 rfl rfl)
theorem dX4_guest_27 : decode cX4_guest 27 = .ok (.iload_n 2, 1) := dk_28 (dk_at dksX4_guest_1 5 rfl rfl)
theorem dX4_guest_28 : decode cX4_guest 28 = .ok (.tableswitch 104 0 7 #[48, 55, 62, 69, 76, 83, 90, 97], 48) := by decide +kernel
theorem dX4_guest_76 : decode cX4_guest 76 = .ok (.aload_n 0, 1) := dk_42 (dk_at dksX4_guest_3 0 rfl rfl)
theorem dX4_guest_77 : decode cX4_guest 77 = .ok (.getfield 35, 3) := dk_180 0 35 (dk_at dksX4_guest_3 1 rfl rfl)
theorem dX4_guest_80 : decode cX4_guest 80 = .ok (.iload_n 1, 1) := dk_27 (dk_at dksX4_guest_3 4 rfl rfl)
theorem dX4_guest_81 : decode cX4_guest 81 = .ok (.iaload, 1) := dk_46 (dk_at dksX4_guest_3 5 rfl rfl)
theorem dX4_guest_82 : decode cX4_guest 82 = .ok (.ireturn, 1) := dk_172 (dk_at dksX4_guest_3 6 rfl rfl)
theorem dX4_guest_83 : decode cX4_guest 83 = .ok (.aload_n 0, 1) := dk_42 (dk_at dksX4_guest_3 7 rfl rfl)
theorem dX4_guest_84 : decode cX4_guest 84 = .ok (.getfield 38, 3) := dk_180 0 38 (dk_at dksX4_guest_3 8 rfl rfl)
theorem dX4_guest_87 : decode cX4_guest 87 = .ok (.iload_n 1, 1) := dk_27 (dk_at dksX4_guest_3 11 rfl rfl)
theorem dX4_guest_88 : decode cX4_guest 88 = .ok (.iaload, 1) := dk_46 (dk_at dksX4_guest_3 12 rfl rfl)
theorem dX4_guest_89 : decode cX4_guest 89 = .ok (.ireturn, 1) := dk_172 (dk_at dksX4_guest_3 13 rfl rfl)
theorem dX4_guest_90 : decode cX4_guest 90 = .ok (.aload_n 0, 1) := dk_42 (dk_at dksX4_guest_3 14 rfl rfl)
theorem dX4_guest_91 : decode cX4_guest 91 = .ok (.getfield 41, 3) := dk_180 0 41 (dk_at dksX4_guest_3 15 rfl rfl)
theorem dX4_guest_94 : decode cX4_guest 94 = .ok (.iload_n 1, 1) := dk_27 (dk_at dksX4_guest_3 18 rfl rfl)
theorem dX4_guest_95 : decode cX4_guest 95 = .ok (.iaload, 1) := dk_46 (dk_at dksX4_guest_3 19 rfl rfl)
theorem dX4_guest_96 : decode cX4_guest 96 = .ok (.ireturn, 1) := dk_172 (dk_at dksX4_guest_3 20 rfl rfl)
theorem dX4_guest_97 : decode cX4_guest 97 = .ok (.aload_n 0, 1) := dk_42 (dk_at dksX4_guest_3 21 rfl rfl)
theorem dX4_guest_98 : decode cX4_guest 98 = .ok (.getfield 44, 3) := dk_180 0 44 (dk_at dksX4_guest_4 0 rfl rfl)
theorem dX4_guest_101 : decode cX4_guest 101 = .ok (.iload_n 1, 1) := dk_27 (dk_at dksX4_guest_4 3 rfl rfl)
theorem dX4_guest_102 : decode cX4_guest 102 = .ok (.iaload, 1) := dk_46 (dk_at dksX4_guest_4 4 rfl rfl)
theorem dX4_guest_103 : decode cX4_guest 103 = .ok (.ireturn, 1) := dk_172 (dk_at dksX4_guest_4 5 rfl rfl)
theorem dX4_guest_104 : decode cX4_guest 104 = .ok (.aload_n 0, 1) := dk_42 (dk_at dksX4_guest_4 6 rfl rfl)
theorem dX4_guest_105 : decode cX4_guest 105 = .ok (.getfield 47, 3) := dk_180 0 47 (dk_at dksX4_guest_4 7 rfl rfl)
theorem dX4_guest_108 : decode cX4_guest 108 = .ok (.iload_n 1, 1) := dk_27 (dk_at dksX4_guest_4 10 rfl rfl)
theorem dX4_guest_109 : decode cX4_guest 109 = .ok (.iaload, 1) := dk_46 (dk_at dksX4_guest_4 11 rfl rfl)
theorem dX4_guest_110 : decode cX4_guest 110 = .ok (.ireturn, 1) := dk_172 (dk_at dksX4_guest_4 12 rfl rfl)
theorem dX4_guest_111 : decode cX4_guest 111 = .ok (.aload_n 0, 1) := dk_42 (dk_at dksX4_guest_4 13 rfl rfl)
theorem dX4_guest_112 : decode cX4_guest 112 = .ok (.getfield 50, 3) := dk_180 0 50 (dk_at dksX4_guest_4 14 rfl rfl)
theorem dX4_guest_115 : decode cX4_guest 115 = .ok (.iload_n 1, 1) := dk_27 (dk_at dksX4_guest_4 17 rfl rfl)
theorem dX4_guest_116 : decode cX4_guest 116 = .ok (.iaload, 1) := dk_46 (dk_at dksX4_guest_4 18 rfl rfl)
theorem dX4_guest_117 : decode cX4_guest 117 = .ok (.ireturn, 1) := dk_172 (dk_at dksX4_guest_4 19 rfl rfl)
theorem dX4_guest_118 : decode cX4_guest 118 = .ok (.aload_n 0, 1) := dk_42 (dk_at dksX4_guest_4 20 rfl rfl)
theorem dX4_guest_119 : decode cX4_guest 119 = .ok (.getfield 53, 3) := dk_180 0 53 (dk_at dksX4_guest_4 21 rfl rfl)
theorem dX4_guest_122 : decode cX4_guest 122 = .ok (.iload_n 1, 1) := dk_27 (dk_at dksX4_guest_5 0 rfl rfl)
theorem dX4_guest_123 : decode cX4_guest 123 = .ok (.iaload, 1) := dk_46 (dk_at dksX4_guest_5 1 rfl rfl)
theorem dX4_guest_124 : decode cX4_guest 124 = .ok (.ireturn, 1) := dk_172 (dk_at dksX4_guest_5 2 rfl rfl)
theorem dX4_guest_125 : decode cX4_guest 125 = .ok (.aload_n 0, 1) := dk_42 (dk_at dksX4_guest_5 3 rfl rfl)
theorem dX4_guest_126 : decode cX4_guest 126 = .ok (.getfield 56, 3) := dk_180 0 56 (dk_at dksX4_guest_5 4 rfl rfl)
theorem dX4_guest_129 : decode cX4_guest 129 = .ok (.iload_n 1, 1) := dk_27 (dk_at dksX4_guest_5 7 rfl rfl)
theorem dX4_guest_130 : decode cX4_guest 130 = .ok (.iaload, 1) := dk_46 (dk_at dksX4_guest_5 8 rfl rfl)
theorem dX4_guest_131 : decode cX4_guest 131 = .ok (.ireturn, 1) := dk_172 (dk_at dksX4_guest_5 9 rfl rfl)
theorem dX4_guest_132 : decode cX4_guest 132 = .ok (.aload_n 0, 1) := dk_42 (dk_at dksX4_guest_5 10 rfl rfl)
theorem dX4_guest_133 : decode cX4_guest 133 = .ok (.getfield 59, 3) := dk_180 0 59 (dk_at dksX4_guest_5 11 rfl rfl)
theorem dX4_guest_136 : decode cX4_guest 136 = .ok (.iload_n 1, 1) := dk_27 (dk_at dksX4_guest_5 14 rfl rfl)
theorem dX4_guest_137 : decode cX4_guest 137 = .ok (.iaload, 1) := dk_46 (dk_at dksX4_guest_5 15 rfl rfl)
theorem dX4_guest_138 : decode cX4_guest 138 = .ok (.ireturn, 1) := dk_172 (dk_at dksX4_guest_5 16 rfl rfl)
abbrev cX4_comes : ByteArray := prog_21_method_42_code
def yX4_comes : MethodName := ⟨RX4, "comes", "(II)I"⟩
def dkwX4_comes_2 : List UInt8 := [167, 0, 22, 42, 42, 180, 0, 83, 27, 46, 42, 180, 0, 86, 27, 46, 16, 9, 28, 182, 0, 153, 172]
abbrev dktX4_comes_2 : List UInt8 := dkwX4_comes_2 ++ []
def dkwX4_comes_1 : List UInt8 := [154, 0, 17, 42, 180, 0, 105, 16, 12, 160, 0, 8, 16, 254, 167, 0, 4, 29, 62, 29, 156, 0, 7, 29]
abbrev dktX4_comes_1 : List UInt8 := dkwX4_comes_1 ++ dktX4_comes_2
def dkwX4_comes_0 : List UInt8 := [42, 3, 181, 0, 102, 28, 184, 1, 9, 153, 0, 11, 42, 27, 182, 1, 12, 167, 0, 4, 2, 62, 29]
abbrev dktX4_comes_0 : List UInt8 := dkwX4_comes_0 ++ dktX4_comes_1
theorem dksX4_comes_0 : cX4_comes.data.toList.drop 0 = dktX4_comes_0 := by decide +kernel
theorem dksX4_comes_1 : cX4_comes.data.toList.drop 23 = dktX4_comes_1 := dk_seg dksX4_comes_0 23 rfl rfl
theorem dksX4_comes_2 : cX4_comes.data.toList.drop 47 = dktX4_comes_2 := dk_seg dksX4_comes_1 24 rfl rfl
theorem dX4_comes_0 : decode cX4_comes 0 = .ok (.aload_n 0, 1) := dk_42 (dk_at dksX4_comes_0 0 rfl rfl)
theorem dX4_comes_1 : decode cX4_comes 1 = .ok (.iconst 0, 1) := dk_3 (dk_at dksX4_comes_0 1 rfl rfl)
theorem dX4_comes_2 : decode cX4_comes 2 = .ok (.putfield 102, 3) := dk_181 0 102 (dk_at dksX4_comes_0 2 rfl rfl)
theorem dX4_comes_5 : decode cX4_comes 5 = .ok (.iload_n 2, 1) := dk_28 (dk_at dksX4_comes_0 5 rfl rfl)
theorem dX4_comes_6 : decode cX4_comes 6 = .ok (.invokestatic 265, 3) := dk_184 1 9 (dk_at dksX4_comes_0 6 rfl rfl)
theorem dX4_comes_9 : decode cX4_comes 9 = .ok (.ifCond .eq 11, 3) := dk_153 0 11 (dk_at dksX4_comes_0 9 rfl rfl)
theorem dX4_comes_12 : decode cX4_comes 12 = .ok (.aload_n 0, 1) := dk_42 (dk_at dksX4_comes_0 12 rfl rfl)
theorem dX4_comes_13 : decode cX4_comes 13 = .ok (.iload_n 1, 1) := dk_27 (dk_at dksX4_comes_0 13 rfl rfl)
theorem dX4_comes_14 : decode cX4_comes 14 = .ok (.invokevirtual 268, 3) := dk_182 1 12 (dk_at dksX4_comes_0 14 rfl rfl)
theorem dX4_comes_17 : decode cX4_comes 17 = .ok (.goto 4, 3) := dk_167 0 4 (dk_at dksX4_comes_0 17 rfl rfl)
theorem dX4_comes_20 : decode cX4_comes 20 = .ok (.iconst (-1), 1) := dk_2 (dk_at dksX4_comes_0 20 rfl rfl)
theorem dX4_comes_21 : decode cX4_comes 21 = .ok (.istore_n 3, 1) := dk_62 (dk_at dksX4_comes_0 21 rfl rfl)
theorem dX4_comes_22 : decode cX4_comes 22 = .ok (.iload_n 3, 1) := dk_29 (dk_at dksX4_comes_0 22 rfl rfl)
theorem dX4_comes_23 : decode cX4_comes 23 = .ok (.ifCond .ne 17, 3) := dk_154 0 17 (dk_at dksX4_comes_1 0 rfl rfl)
theorem dX4_comes_26 : decode cX4_comes 26 = .ok (.aload_n 0, 1) := dk_42 (dk_at dksX4_comes_1 3 rfl rfl)
theorem dX4_comes_27 : decode cX4_comes 27 = .ok (.getfield 105, 3) := dk_180 0 105 (dk_at dksX4_comes_1 4 rfl rfl)
theorem dX4_comes_30 : decode cX4_comes 30 = .ok (.bipush 12, 2) := dk_16 12 (dk_at dksX4_comes_1 7 rfl rfl)
theorem dX4_comes_32 : decode cX4_comes 32 = .ok (.if_icmp .ne 8, 3) := dk_160 0 8 (dk_at dksX4_comes_1 9 rfl rfl)
theorem dX4_comes_35 : decode cX4_comes 35 = .ok (.bipush (-2), 2) := dk_16 254 (dk_at dksX4_comes_1 12 rfl rfl)
theorem dX4_comes_37 : decode cX4_comes 37 = .ok (.goto 4, 3) := dk_167 0 4 (dk_at dksX4_comes_1 14 rfl rfl)
theorem dX4_comes_40 : decode cX4_comes 40 = .ok (.iload_n 3, 1) := dk_29 (dk_at dksX4_comes_1 17 rfl rfl)
theorem dX4_comes_41 : decode cX4_comes 41 = .ok (.istore_n 3, 1) := dk_62 (dk_at dksX4_comes_1 18 rfl rfl)
theorem dX4_comes_42 : decode cX4_comes 42 = .ok (.iload_n 3, 1) := dk_29 (dk_at dksX4_comes_1 19 rfl rfl)
theorem dX4_comes_43 : decode cX4_comes 43 = .ok (.ifCond .ge 7, 3) := dk_156 0 7 (dk_at dksX4_comes_1 20 rfl rfl)
theorem dX4_comes_46 : decode cX4_comes 46 = .ok (.iload_n 3, 1) := dk_29 (dk_at dksX4_comes_1 23 rfl rfl)
theorem dX4_comes_47 : decode cX4_comes 47 = .ok (.goto 22, 3) := dk_167 0 22 (dk_at dksX4_comes_2 0 rfl rfl)
theorem dX4_comes_50 : decode cX4_comes 50 = .ok (.aload_n 0, 1) := dk_42 (dk_at dksX4_comes_2 3 rfl rfl)
theorem dX4_comes_51 : decode cX4_comes 51 = .ok (.aload_n 0, 1) := dk_42 (dk_at dksX4_comes_2 4 rfl rfl)
theorem dX4_comes_52 : decode cX4_comes 52 = .ok (.getfield 83, 3) := dk_180 0 83 (dk_at dksX4_comes_2 5 rfl rfl)
theorem dX4_comes_55 : decode cX4_comes 55 = .ok (.iload_n 1, 1) := dk_27 (dk_at dksX4_comes_2 8 rfl rfl)
theorem dX4_comes_56 : decode cX4_comes 56 = .ok (.iaload, 1) := dk_46 (dk_at dksX4_comes_2 9 rfl rfl)
theorem dX4_comes_57 : decode cX4_comes 57 = .ok (.aload_n 0, 1) := dk_42 (dk_at dksX4_comes_2 10 rfl rfl)
theorem dX4_comes_58 : decode cX4_comes 58 = .ok (.getfield 86, 3) := dk_180 0 86 (dk_at dksX4_comes_2 11 rfl rfl)
theorem dX4_comes_61 : decode cX4_comes 61 = .ok (.iload_n 1, 1) := dk_27 (dk_at dksX4_comes_2 14 rfl rfl)
theorem dX4_comes_62 : decode cX4_comes 62 = .ok (.iaload, 1) := dk_46 (dk_at dksX4_comes_2 15 rfl rfl)
theorem dX4_comes_63 : decode cX4_comes 63 = .ok (.bipush 9, 2) := dk_16 9 (dk_at dksX4_comes_2 16 rfl rfl)
theorem dX4_comes_65 : decode cX4_comes 65 = .ok (.iload_n 2, 1) := dk_28 (dk_at dksX4_comes_2 18 rfl rfl)
theorem dX4_comes_66 : decode cX4_comes 66 = .ok (.invokevirtual 153, 3) := dk_182 0 153 (dk_at dksX4_comes_2 19 rfl rfl)
theorem dX4_comes_69 : decode cX4_comes 69 = .ok (.ireturn, 1) := dk_172 (dk_at dksX4_comes_2 22 rfl rfl)
abbrev cX4_isPlace : ByteArray := prog_21_method_6_code
def yX4_isPlace : MethodName := ⟨RX4, "isPlace", "(I)Z"⟩
def dkwX4_isPlace_0 : List UInt8 := [26, 133, 9, 20, 0, 115, 184, 0, 108, 172]
abbrev dktX4_isPlace_0 : List UInt8 := dkwX4_isPlace_0 ++ []
theorem dksX4_isPlace_0 : cX4_isPlace.data.toList.drop 0 = dktX4_isPlace_0 := by decide +kernel
theorem dX4_isPlace_0 : decode cX4_isPlace 0 = .ok (.iload_n 0, 1) := dk_26 (dk_at dksX4_isPlace_0 0 rfl rfl)
theorem dX4_isPlace_1 : decode cX4_isPlace 1 = .ok (.i2l, 1) := dk_133 (dk_at dksX4_isPlace_0 1 rfl rfl)
theorem dX4_isPlace_2 : decode cX4_isPlace 2 = .ok (.lconst 0, 1) := dk_9 (dk_at dksX4_isPlace_0 2 rfl rfl)
theorem dX4_isPlace_3 : decode cX4_isPlace 3 = .ok (.ldc2_w 115, 3) := dk_20 0 115 (dk_at dksX4_isPlace_0 3 rfl rfl)
theorem dX4_isPlace_6 : decode cX4_isPlace 6 = .ok (.invokestatic 108, 3) := dk_184 0 108 (dk_at dksX4_isPlace_0 6 rfl rfl)
theorem dX4_isPlace_9 : decode cX4_isPlace 9 = .ok (.ireturn, 1) := dk_172 (dk_at dksX4_isPlace_0 9 rfl rfl)
abbrev cX4_wrongKept : ByteArray := prog_21_method_41_code
def yX4_wrongKept : MethodName := ⟨RX4, "wrongKept", "(I)I"⟩
def dkwX4_wrongKept_2 : List UInt8 := [172]
abbrev dktX4_wrongKept_2 : List UInt8 := dkwX4_wrongKept_2 ++ []
def dkwX4_wrongKept_1 : List UInt8 := [154, 0, 8, 16, 245, 167, 0, 19, 42, 180, 0, 80, 27, 46, 4, 159, 0, 8, 16, 244, 167, 0, 4, 3]
abbrev dktX4_wrongKept_1 : List UInt8 := dkwX4_wrongKept_1 ++ dktX4_wrongKept_2
def dkwX4_wrongKept_0 : List UInt8 := [27, 133, 9, 20, 1, 7, 184, 0, 108, 154, 0, 7, 2, 167, 0, 33, 42, 180, 0, 80, 27, 46]
abbrev dktX4_wrongKept_0 : List UInt8 := dkwX4_wrongKept_0 ++ dktX4_wrongKept_1
theorem dksX4_wrongKept_0 : cX4_wrongKept.data.toList.drop 0 = dktX4_wrongKept_0 := by decide +kernel
theorem dksX4_wrongKept_1 : cX4_wrongKept.data.toList.drop 22 = dktX4_wrongKept_1 := dk_seg dksX4_wrongKept_0 22 rfl rfl
theorem dksX4_wrongKept_2 : cX4_wrongKept.data.toList.drop 46 = dktX4_wrongKept_2 := dk_seg dksX4_wrongKept_1 24 rfl rfl
theorem dX4_wrongKept_0 : decode cX4_wrongKept 0 = .ok (.iload_n 1, 1) := dk_27 (dk_at dksX4_wrongKept_0 0 rfl rfl)
theorem dX4_wrongKept_1 : decode cX4_wrongKept 1 = .ok (.i2l, 1) := dk_133 (dk_at dksX4_wrongKept_0 1 rfl rfl)
theorem dX4_wrongKept_2 : decode cX4_wrongKept 2 = .ok (.lconst 0, 1) := dk_9 (dk_at dksX4_wrongKept_0 2 rfl rfl)
theorem dX4_wrongKept_3 : decode cX4_wrongKept 3 = .ok (.ldc2_w 263, 3) := dk_20 1 7 (dk_at dksX4_wrongKept_0 3 rfl rfl)
theorem dX4_wrongKept_6 : decode cX4_wrongKept 6 = .ok (.invokestatic 108, 3) := dk_184 0 108 (dk_at dksX4_wrongKept_0 6 rfl rfl)
theorem dX4_wrongKept_9 : decode cX4_wrongKept 9 = .ok (.ifCond .ne 7, 3) := dk_154 0 7 (dk_at dksX4_wrongKept_0 9 rfl rfl)
theorem dX4_wrongKept_12 : decode cX4_wrongKept 12 = .ok (.iconst (-1), 1) := dk_2 (dk_at dksX4_wrongKept_0 12 rfl rfl)
theorem dX4_wrongKept_13 : decode cX4_wrongKept 13 = .ok (.goto 33, 3) := dk_167 0 33 (dk_at dksX4_wrongKept_0 13 rfl rfl)
theorem dX4_wrongKept_16 : decode cX4_wrongKept 16 = .ok (.aload_n 0, 1) := dk_42 (dk_at dksX4_wrongKept_0 16 rfl rfl)
theorem dX4_wrongKept_17 : decode cX4_wrongKept 17 = .ok (.getfield 80, 3) := dk_180 0 80 (dk_at dksX4_wrongKept_0 17 rfl rfl)
theorem dX4_wrongKept_20 : decode cX4_wrongKept 20 = .ok (.iload_n 1, 1) := dk_27 (dk_at dksX4_wrongKept_0 20 rfl rfl)
theorem dX4_wrongKept_21 : decode cX4_wrongKept 21 = .ok (.iaload, 1) := dk_46 (dk_at dksX4_wrongKept_0 21 rfl rfl)
theorem dX4_wrongKept_22 : decode cX4_wrongKept 22 = .ok (.ifCond .ne 8, 3) := dk_154 0 8 (dk_at dksX4_wrongKept_1 0 rfl rfl)
theorem dX4_wrongKept_25 : decode cX4_wrongKept 25 = .ok (.bipush (-11), 2) := dk_16 245 (dk_at dksX4_wrongKept_1 3 rfl rfl)
theorem dX4_wrongKept_27 : decode cX4_wrongKept 27 = .ok (.goto 19, 3) := dk_167 0 19 (dk_at dksX4_wrongKept_1 5 rfl rfl)
theorem dX4_wrongKept_30 : decode cX4_wrongKept 30 = .ok (.aload_n 0, 1) := dk_42 (dk_at dksX4_wrongKept_1 8 rfl rfl)
theorem dX4_wrongKept_31 : decode cX4_wrongKept 31 = .ok (.getfield 80, 3) := dk_180 0 80 (dk_at dksX4_wrongKept_1 9 rfl rfl)
theorem dX4_wrongKept_34 : decode cX4_wrongKept 34 = .ok (.iload_n 1, 1) := dk_27 (dk_at dksX4_wrongKept_1 12 rfl rfl)
theorem dX4_wrongKept_35 : decode cX4_wrongKept 35 = .ok (.iaload, 1) := dk_46 (dk_at dksX4_wrongKept_1 13 rfl rfl)
theorem dX4_wrongKept_36 : decode cX4_wrongKept 36 = .ok (.iconst 1, 1) := dk_4 (dk_at dksX4_wrongKept_1 14 rfl rfl)
theorem dX4_wrongKept_37 : decode cX4_wrongKept 37 = .ok (.if_icmp .eq 8, 3) := dk_159 0 8 (dk_at dksX4_wrongKept_1 15 rfl rfl)
theorem dX4_wrongKept_40 : decode cX4_wrongKept 40 = .ok (.bipush (-12), 2) := dk_16 244 (dk_at dksX4_wrongKept_1 18 rfl rfl)
theorem dX4_wrongKept_42 : decode cX4_wrongKept 42 = .ok (.goto 4, 3) := dk_167 0 4 (dk_at dksX4_wrongKept_1 20 rfl rfl)
theorem dX4_wrongKept_45 : decode cX4_wrongKept 45 = .ok (.iconst 0, 1) := dk_3 (dk_at dksX4_wrongKept_1 23 rfl rfl)
theorem dX4_wrongKept_46 : decode cX4_wrongKept 46 = .ok (.ireturn, 1) := dk_172 (dk_at dksX4_wrongKept_2 0 rfl rfl)
abbrev cX4_go : ByteArray := prog_21_method_43_code
def yX4_go : MethodName := ⟨RX4, "go", "(II)I"⟩
def dkwX4_go_1 : List UInt8 := [180, 0, 47, 27, 46, 62, 42, 180, 0, 47, 27, 28, 79, 29, 172]
abbrev dktX4_go_1 : List UInt8 := dkwX4_go_1 ++ []
def dkwX4_go_0 : List UInt8 := [42, 3, 181, 0, 102, 42, 27, 182, 0, 228, 153, 0, 10, 28, 184, 1, 9, 154, 0, 5, 2, 172, 42]
abbrev dktX4_go_0 : List UInt8 := dkwX4_go_0 ++ dktX4_go_1
theorem dksX4_go_0 : cX4_go.data.toList.drop 0 = dktX4_go_0 := by decide +kernel
theorem dksX4_go_1 : cX4_go.data.toList.drop 23 = dktX4_go_1 := dk_seg dksX4_go_0 23 rfl rfl
theorem dX4_go_0 : decode cX4_go 0 = .ok (.aload_n 0, 1) := dk_42 (dk_at dksX4_go_0 0 rfl rfl)
theorem dX4_go_1 : decode cX4_go 1 = .ok (.iconst 0, 1) := dk_3 (dk_at dksX4_go_0 1 rfl rfl)
theorem dX4_go_2 : decode cX4_go 2 = .ok (.putfield 102, 3) := dk_181 0 102 (dk_at dksX4_go_0 2 rfl rfl)
theorem dX4_go_5 : decode cX4_go 5 = .ok (.aload_n 0, 1) := dk_42 (dk_at dksX4_go_0 5 rfl rfl)
theorem dX4_go_6 : decode cX4_go 6 = .ok (.iload_n 1, 1) := dk_27 (dk_at dksX4_go_0 6 rfl rfl)
theorem dX4_go_7 : decode cX4_go 7 = .ok (.invokevirtual 228, 3) := dk_182 0 228 (dk_at dksX4_go_0 7 rfl rfl)
theorem dX4_go_10 : decode cX4_go 10 = .ok (.ifCond .eq 10, 3) := dk_153 0 10 (dk_at dksX4_go_0 10 rfl rfl)
theorem dX4_go_13 : decode cX4_go 13 = .ok (.iload_n 2, 1) := dk_28 (dk_at dksX4_go_0 13 rfl rfl)
theorem dX4_go_14 : decode cX4_go 14 = .ok (.invokestatic 265, 3) := dk_184 1 9 (dk_at dksX4_go_0 14 rfl rfl)
theorem dX4_go_17 : decode cX4_go 17 = .ok (.ifCond .ne 5, 3) := dk_154 0 5 (dk_at dksX4_go_0 17 rfl rfl)
theorem dX4_go_20 : decode cX4_go 20 = .ok (.iconst (-1), 1) := dk_2 (dk_at dksX4_go_0 20 rfl rfl)
theorem dX4_go_21 : decode cX4_go 21 = .ok (.ireturn, 1) := dk_172 (dk_at dksX4_go_0 21 rfl rfl)
theorem dX4_go_22 : decode cX4_go 22 = .ok (.aload_n 0, 1) := dk_42 (dk_at dksX4_go_0 22 rfl rfl)
theorem dX4_go_23 : decode cX4_go 23 = .ok (.getfield 47, 3) := dk_180 0 47 (dk_at dksX4_go_1 0 rfl rfl)
theorem dX4_go_26 : decode cX4_go 26 = .ok (.iload_n 1, 1) := dk_27 (dk_at dksX4_go_1 3 rfl rfl)
theorem dX4_go_27 : decode cX4_go 27 = .ok (.iaload, 1) := dk_46 (dk_at dksX4_go_1 4 rfl rfl)
theorem dX4_go_28 : decode cX4_go 28 = .ok (.istore_n 3, 1) := dk_62 (dk_at dksX4_go_1 5 rfl rfl)
theorem dX4_go_29 : decode cX4_go 29 = .ok (.aload_n 0, 1) := dk_42 (dk_at dksX4_go_1 6 rfl rfl)
theorem dX4_go_30 : decode cX4_go 30 = .ok (.getfield 47, 3) := dk_180 0 47 (dk_at dksX4_go_1 7 rfl rfl)
theorem dX4_go_33 : decode cX4_go 33 = .ok (.iload_n 1, 1) := dk_27 (dk_at dksX4_go_1 10 rfl rfl)
theorem dX4_go_34 : decode cX4_go 34 = .ok (.iload_n 2, 1) := dk_28 (dk_at dksX4_go_1 11 rfl rfl)
theorem dX4_go_35 : decode cX4_go 35 = .ok (.iastore, 1) := dk_79 (dk_at dksX4_go_1 12 rfl rfl)
theorem dX4_go_36 : decode cX4_go 36 = .ok (.iload_n 3, 1) := dk_29 (dk_at dksX4_go_1 13 rfl rfl)
theorem dX4_go_37 : decode cX4_go 37 = .ok (.ireturn, 1) := dk_172 (dk_at dksX4_go_1 14 rfl rfl)
abbrev cX4_sip : ByteArray := prog_21_method_44_code
def yX4_sip : MethodName := ⟨RX4, "sip", "(I)I"⟩
def dkwX4_sip_2 : List UInt8 := [172]
abbrev dktX4_sip_2 : List UInt8 := dkwX4_sip_2 ++ []
def dkwX4_sip_1 : List UInt8 := [42, 180, 0, 20, 42, 180, 0, 50, 27, 46, 46, 154, 0, 8, 16, 253, 167, 0, 8, 42, 27, 182, 0, 167]
abbrev dktX4_sip_1 : List UInt8 := dkwX4_sip_1 ++ dktX4_sip_2
def dkwX4_sip_0 : List UInt8 := [42, 3, 181, 0, 102, 42, 27, 182, 0, 228, 154, 0, 5, 2, 172, 42, 180, 0, 50, 27, 46, 155, 0, 17]
abbrev dktX4_sip_0 : List UInt8 := dkwX4_sip_0 ++ dktX4_sip_1
theorem dksX4_sip_0 : cX4_sip.data.toList.drop 0 = dktX4_sip_0 := by decide +kernel
theorem dksX4_sip_1 : cX4_sip.data.toList.drop 24 = dktX4_sip_1 := dk_seg dksX4_sip_0 24 rfl rfl
theorem dksX4_sip_2 : cX4_sip.data.toList.drop 48 = dktX4_sip_2 := dk_seg dksX4_sip_1 24 rfl rfl
theorem dX4_sip_0 : decode cX4_sip 0 = .ok (.aload_n 0, 1) := dk_42 (dk_at dksX4_sip_0 0 rfl rfl)
theorem dX4_sip_1 : decode cX4_sip 1 = .ok (.iconst 0, 1) := dk_3 (dk_at dksX4_sip_0 1 rfl rfl)
theorem dX4_sip_2 : decode cX4_sip 2 = .ok (.putfield 102, 3) := dk_181 0 102 (dk_at dksX4_sip_0 2 rfl rfl)
theorem dX4_sip_5 : decode cX4_sip 5 = .ok (.aload_n 0, 1) := dk_42 (dk_at dksX4_sip_0 5 rfl rfl)
theorem dX4_sip_6 : decode cX4_sip 6 = .ok (.iload_n 1, 1) := dk_27 (dk_at dksX4_sip_0 6 rfl rfl)
theorem dX4_sip_7 : decode cX4_sip 7 = .ok (.invokevirtual 228, 3) := dk_182 0 228 (dk_at dksX4_sip_0 7 rfl rfl)
theorem dX4_sip_10 : decode cX4_sip 10 = .ok (.ifCond .ne 5, 3) := dk_154 0 5 (dk_at dksX4_sip_0 10 rfl rfl)
theorem dX4_sip_13 : decode cX4_sip 13 = .ok (.iconst (-1), 1) := dk_2 (dk_at dksX4_sip_0 13 rfl rfl)
theorem dX4_sip_14 : decode cX4_sip 14 = .ok (.ireturn, 1) := dk_172 (dk_at dksX4_sip_0 14 rfl rfl)
theorem dX4_sip_15 : decode cX4_sip 15 = .ok (.aload_n 0, 1) := dk_42 (dk_at dksX4_sip_0 15 rfl rfl)
theorem dX4_sip_16 : decode cX4_sip 16 = .ok (.getfield 50, 3) := dk_180 0 50 (dk_at dksX4_sip_0 16 rfl rfl)
theorem dX4_sip_19 : decode cX4_sip 19 = .ok (.iload_n 1, 1) := dk_27 (dk_at dksX4_sip_0 19 rfl rfl)
theorem dX4_sip_20 : decode cX4_sip 20 = .ok (.iaload, 1) := dk_46 (dk_at dksX4_sip_0 20 rfl rfl)
theorem dX4_sip_21 : decode cX4_sip 21 = .ok (.ifCond .lt 17, 3) := dk_155 0 17 (dk_at dksX4_sip_0 21 rfl rfl)
theorem dX4_sip_24 : decode cX4_sip 24 = .ok (.aload_n 0, 1) := dk_42 (dk_at dksX4_sip_1 0 rfl rfl)
theorem dX4_sip_25 : decode cX4_sip 25 = .ok (.getfield 20, 3) := dk_180 0 20 (dk_at dksX4_sip_1 1 rfl rfl)
theorem dX4_sip_28 : decode cX4_sip 28 = .ok (.aload_n 0, 1) := dk_42 (dk_at dksX4_sip_1 4 rfl rfl)
theorem dX4_sip_29 : decode cX4_sip 29 = .ok (.getfield 50, 3) := dk_180 0 50 (dk_at dksX4_sip_1 5 rfl rfl)
theorem dX4_sip_32 : decode cX4_sip 32 = .ok (.iload_n 1, 1) := dk_27 (dk_at dksX4_sip_1 8 rfl rfl)
theorem dX4_sip_33 : decode cX4_sip 33 = .ok (.iaload, 1) := dk_46 (dk_at dksX4_sip_1 9 rfl rfl)
theorem dX4_sip_34 : decode cX4_sip 34 = .ok (.iaload, 1) := dk_46 (dk_at dksX4_sip_1 10 rfl rfl)
theorem dX4_sip_35 : decode cX4_sip 35 = .ok (.ifCond .ne 8, 3) := dk_154 0 8 (dk_at dksX4_sip_1 11 rfl rfl)
theorem dX4_sip_38 : decode cX4_sip 38 = .ok (.bipush (-3), 2) := dk_16 253 (dk_at dksX4_sip_1 14 rfl rfl)
theorem dX4_sip_40 : decode cX4_sip 40 = .ok (.goto 8, 3) := dk_167 0 8 (dk_at dksX4_sip_1 16 rfl rfl)
theorem dX4_sip_43 : decode cX4_sip 43 = .ok (.aload_n 0, 1) := dk_42 (dk_at dksX4_sip_1 19 rfl rfl)
theorem dX4_sip_44 : decode cX4_sip 44 = .ok (.iload_n 1, 1) := dk_27 (dk_at dksX4_sip_1 20 rfl rfl)
theorem dX4_sip_45 : decode cX4_sip 45 = .ok (.invokevirtual 167, 3) := dk_182 0 167 (dk_at dksX4_sip_1 21 rfl rfl)
theorem dX4_sip_48 : decode cX4_sip 48 = .ok (.ireturn, 1) := dk_172 (dk_at dksX4_sip_2 0 rfl rfl)
abbrev cX4_lay : ByteArray := prog_21_method_45_code
def yX4_lay : MethodName := ⟨RX4, "lay", "(I)I"⟩
def dkwX4_lay_1 : List UInt8 := [16, 253, 167, 0, 8, 42, 27, 182, 0, 170, 172]
abbrev dktX4_lay_1 : List UInt8 := dkwX4_lay_1 ++ []
def dkwX4_lay_0 : List UInt8 := [42, 3, 181, 0, 102, 42, 27, 182, 0, 228, 154, 0, 5, 2, 172, 42, 180, 0, 50, 27, 46, 156, 0, 8]
abbrev dktX4_lay_0 : List UInt8 := dkwX4_lay_0 ++ dktX4_lay_1
theorem dksX4_lay_0 : cX4_lay.data.toList.drop 0 = dktX4_lay_0 := by decide +kernel
theorem dksX4_lay_1 : cX4_lay.data.toList.drop 24 = dktX4_lay_1 := dk_seg dksX4_lay_0 24 rfl rfl
theorem dX4_lay_0 : decode cX4_lay 0 = .ok (.aload_n 0, 1) := dk_42 (dk_at dksX4_lay_0 0 rfl rfl)
theorem dX4_lay_1 : decode cX4_lay 1 = .ok (.iconst 0, 1) := dk_3 (dk_at dksX4_lay_0 1 rfl rfl)
theorem dX4_lay_2 : decode cX4_lay 2 = .ok (.putfield 102, 3) := dk_181 0 102 (dk_at dksX4_lay_0 2 rfl rfl)
theorem dX4_lay_5 : decode cX4_lay 5 = .ok (.aload_n 0, 1) := dk_42 (dk_at dksX4_lay_0 5 rfl rfl)
theorem dX4_lay_6 : decode cX4_lay 6 = .ok (.iload_n 1, 1) := dk_27 (dk_at dksX4_lay_0 6 rfl rfl)
theorem dX4_lay_7 : decode cX4_lay 7 = .ok (.invokevirtual 228, 3) := dk_182 0 228 (dk_at dksX4_lay_0 7 rfl rfl)
theorem dX4_lay_10 : decode cX4_lay 10 = .ok (.ifCond .ne 5, 3) := dk_154 0 5 (dk_at dksX4_lay_0 10 rfl rfl)
theorem dX4_lay_13 : decode cX4_lay 13 = .ok (.iconst (-1), 1) := dk_2 (dk_at dksX4_lay_0 13 rfl rfl)
theorem dX4_lay_14 : decode cX4_lay 14 = .ok (.ireturn, 1) := dk_172 (dk_at dksX4_lay_0 14 rfl rfl)
theorem dX4_lay_15 : decode cX4_lay 15 = .ok (.aload_n 0, 1) := dk_42 (dk_at dksX4_lay_0 15 rfl rfl)
theorem dX4_lay_16 : decode cX4_lay 16 = .ok (.getfield 50, 3) := dk_180 0 50 (dk_at dksX4_lay_0 16 rfl rfl)
theorem dX4_lay_19 : decode cX4_lay 19 = .ok (.iload_n 1, 1) := dk_27 (dk_at dksX4_lay_0 19 rfl rfl)
theorem dX4_lay_20 : decode cX4_lay 20 = .ok (.iaload, 1) := dk_46 (dk_at dksX4_lay_0 20 rfl rfl)
theorem dX4_lay_21 : decode cX4_lay 21 = .ok (.ifCond .ge 8, 3) := dk_156 0 8 (dk_at dksX4_lay_0 21 rfl rfl)
theorem dX4_lay_24 : decode cX4_lay 24 = .ok (.bipush (-3), 2) := dk_16 253 (dk_at dksX4_lay_1 0 rfl rfl)
theorem dX4_lay_26 : decode cX4_lay 26 = .ok (.goto 8, 3) := dk_167 0 8 (dk_at dksX4_lay_1 2 rfl rfl)
theorem dX4_lay_29 : decode cX4_lay 29 = .ok (.aload_n 0, 1) := dk_42 (dk_at dksX4_lay_1 5 rfl rfl)
theorem dX4_lay_30 : decode cX4_lay 30 = .ok (.iload_n 1, 1) := dk_27 (dk_at dksX4_lay_1 6 rfl rfl)
theorem dX4_lay_31 : decode cX4_lay 31 = .ok (.invokevirtual 170, 3) := dk_182 0 170 (dk_at dksX4_lay_1 7 rfl rfl)
theorem dX4_lay_34 : decode cX4_lay 34 = .ok (.ireturn, 1) := dk_172 (dk_at dksX4_lay_1 10 rfl rfl)
abbrev cX4_take : ByteArray := prog_21_method_46_code
def yX4_take : MethodName := ⟨RX4, "take", "(I)I"⟩
def dkwX4_take_1 : List UInt8 := [16, 253, 167, 0, 8, 42, 27, 182, 0, 164, 172]
abbrev dktX4_take_1 : List UInt8 := dkwX4_take_1 ++ []
def dkwX4_take_0 : List UInt8 := [42, 3, 181, 0, 102, 42, 27, 182, 0, 228, 154, 0, 5, 2, 172, 42, 180, 0, 50, 27, 46, 155, 0, 8]
abbrev dktX4_take_0 : List UInt8 := dkwX4_take_0 ++ dktX4_take_1
theorem dksX4_take_0 : cX4_take.data.toList.drop 0 = dktX4_take_0 := by decide +kernel
theorem dksX4_take_1 : cX4_take.data.toList.drop 24 = dktX4_take_1 := dk_seg dksX4_take_0 24 rfl rfl
theorem dX4_take_0 : decode cX4_take 0 = .ok (.aload_n 0, 1) := dk_42 (dk_at dksX4_take_0 0 rfl rfl)
theorem dX4_take_1 : decode cX4_take 1 = .ok (.iconst 0, 1) := dk_3 (dk_at dksX4_take_0 1 rfl rfl)
theorem dX4_take_2 : decode cX4_take 2 = .ok (.putfield 102, 3) := dk_181 0 102 (dk_at dksX4_take_0 2 rfl rfl)
theorem dX4_take_5 : decode cX4_take 5 = .ok (.aload_n 0, 1) := dk_42 (dk_at dksX4_take_0 5 rfl rfl)
theorem dX4_take_6 : decode cX4_take 6 = .ok (.iload_n 1, 1) := dk_27 (dk_at dksX4_take_0 6 rfl rfl)
theorem dX4_take_7 : decode cX4_take 7 = .ok (.invokevirtual 228, 3) := dk_182 0 228 (dk_at dksX4_take_0 7 rfl rfl)
theorem dX4_take_10 : decode cX4_take 10 = .ok (.ifCond .ne 5, 3) := dk_154 0 5 (dk_at dksX4_take_0 10 rfl rfl)
theorem dX4_take_13 : decode cX4_take 13 = .ok (.iconst (-1), 1) := dk_2 (dk_at dksX4_take_0 13 rfl rfl)
theorem dX4_take_14 : decode cX4_take 14 = .ok (.ireturn, 1) := dk_172 (dk_at dksX4_take_0 14 rfl rfl)
theorem dX4_take_15 : decode cX4_take 15 = .ok (.aload_n 0, 1) := dk_42 (dk_at dksX4_take_0 15 rfl rfl)
theorem dX4_take_16 : decode cX4_take 16 = .ok (.getfield 50, 3) := dk_180 0 50 (dk_at dksX4_take_0 16 rfl rfl)
theorem dX4_take_19 : decode cX4_take 19 = .ok (.iload_n 1, 1) := dk_27 (dk_at dksX4_take_0 19 rfl rfl)
theorem dX4_take_20 : decode cX4_take 20 = .ok (.iaload, 1) := dk_46 (dk_at dksX4_take_0 20 rfl rfl)
theorem dX4_take_21 : decode cX4_take 21 = .ok (.ifCond .lt 8, 3) := dk_155 0 8 (dk_at dksX4_take_0 21 rfl rfl)
theorem dX4_take_24 : decode cX4_take 24 = .ok (.bipush (-3), 2) := dk_16 253 (dk_at dksX4_take_1 0 rfl rfl)
theorem dX4_take_26 : decode cX4_take 26 = .ok (.goto 8, 3) := dk_167 0 8 (dk_at dksX4_take_1 2 rfl rfl)
theorem dX4_take_29 : decode cX4_take 29 = .ok (.aload_n 0, 1) := dk_42 (dk_at dksX4_take_1 5 rfl rfl)
theorem dX4_take_30 : decode cX4_take 30 = .ok (.iload_n 1, 1) := dk_27 (dk_at dksX4_take_1 6 rfl rfl)
theorem dX4_take_31 : decode cX4_take 31 = .ok (.invokevirtual 164, 3) := dk_182 0 164 (dk_at dksX4_take_1 7 rfl rfl)
theorem dX4_take_34 : decode cX4_take 34 = .ok (.ireturn, 1) := dk_172 (dk_at dksX4_take_1 10 rfl rfl)
abbrev cX4_fill : ByteArray := prog_21_method_47_code
def yX4_fill : MethodName := ⟨RX4, "fill", "(I)I"⟩
def dkwX4_fill_4 : List UInt8 := [167, 255, 183, 28, 172]
abbrev dktX4_fill_4 : List UInt8 := dkwX4_fill_4 ++ []
def dkwX4_fill_3 : List UInt8 := [180, 0, 20, 29, 46, 79, 28, 21, 4, 153, 0, 7, 4, 167, 0, 4, 3, 96, 61, 132, 3, 1]
abbrev dktX4_fill_3 : List UInt8 := dkwX4_fill_3 ++ dktX4_fill_4
def dkwX4_fill_2 : List UInt8 := [167, 0, 4, 3, 54, 4, 42, 180, 0, 20, 29, 21, 4, 153, 0, 8, 16, 9, 167, 0, 9, 42]
abbrev dktX4_fill_2 : List UInt8 := dkwX4_fill_2 ++ dktX4_fill_3
def dkwX4_fill_1 : List UInt8 := [162, 0, 71, 42, 180, 0, 23, 29, 46, 27, 160, 0, 17, 42, 180, 0, 20, 29, 46, 8, 162, 0, 7, 4]
abbrev dktX4_fill_1 : List UInt8 := dkwX4_fill_1 ++ dktX4_fill_2
def dkwX4_fill_0 : List UInt8 := [42, 3, 181, 0, 102, 27, 184, 1, 9, 154, 0, 5, 2, 172, 3, 61, 3, 62, 29, 42, 180, 0, 105]
abbrev dktX4_fill_0 : List UInt8 := dkwX4_fill_0 ++ dktX4_fill_1
theorem dksX4_fill_0 : cX4_fill.data.toList.drop 0 = dktX4_fill_0 := by decide +kernel
theorem dksX4_fill_1 : cX4_fill.data.toList.drop 23 = dktX4_fill_1 := dk_seg dksX4_fill_0 23 rfl rfl
theorem dksX4_fill_2 : cX4_fill.data.toList.drop 47 = dktX4_fill_2 := dk_seg dksX4_fill_1 24 rfl rfl
theorem dksX4_fill_3 : cX4_fill.data.toList.drop 69 = dktX4_fill_3 := dk_seg dksX4_fill_2 22 rfl rfl
theorem dksX4_fill_4 : cX4_fill.data.toList.drop 91 = dktX4_fill_4 := dk_seg dksX4_fill_3 22 rfl rfl
theorem dX4_fill_0 : decode cX4_fill 0 = .ok (.aload_n 0, 1) := dk_42 (dk_at dksX4_fill_0 0 rfl rfl)
theorem dX4_fill_1 : decode cX4_fill 1 = .ok (.iconst 0, 1) := dk_3 (dk_at dksX4_fill_0 1 rfl rfl)
theorem dX4_fill_2 : decode cX4_fill 2 = .ok (.putfield 102, 3) := dk_181 0 102 (dk_at dksX4_fill_0 2 rfl rfl)
theorem dX4_fill_5 : decode cX4_fill 5 = .ok (.iload_n 1, 1) := dk_27 (dk_at dksX4_fill_0 5 rfl rfl)
theorem dX4_fill_6 : decode cX4_fill 6 = .ok (.invokestatic 265, 3) := dk_184 1 9 (dk_at dksX4_fill_0 6 rfl rfl)
theorem dX4_fill_9 : decode cX4_fill 9 = .ok (.ifCond .ne 5, 3) := dk_154 0 5 (dk_at dksX4_fill_0 9 rfl rfl)
theorem dX4_fill_12 : decode cX4_fill 12 = .ok (.iconst (-1), 1) := dk_2 (dk_at dksX4_fill_0 12 rfl rfl)
theorem dX4_fill_13 : decode cX4_fill 13 = .ok (.ireturn, 1) := dk_172 (dk_at dksX4_fill_0 13 rfl rfl)
theorem dX4_fill_14 : decode cX4_fill 14 = .ok (.iconst 0, 1) := dk_3 (dk_at dksX4_fill_0 14 rfl rfl)
theorem dX4_fill_15 : decode cX4_fill 15 = .ok (.istore_n 2, 1) := dk_61 (dk_at dksX4_fill_0 15 rfl rfl)
theorem dX4_fill_16 : decode cX4_fill 16 = .ok (.iconst 0, 1) := dk_3 (dk_at dksX4_fill_0 16 rfl rfl)
theorem dX4_fill_17 : decode cX4_fill 17 = .ok (.istore_n 3, 1) := dk_62 (dk_at dksX4_fill_0 17 rfl rfl)
theorem dX4_fill_18 : decode cX4_fill 18 = .ok (.iload_n 3, 1) := dk_29 (dk_at dksX4_fill_0 18 rfl rfl)
theorem dX4_fill_19 : decode cX4_fill 19 = .ok (.aload_n 0, 1) := dk_42 (dk_at dksX4_fill_0 19 rfl rfl)
theorem dX4_fill_20 : decode cX4_fill 20 = .ok (.getfield 105, 3) := dk_180 0 105 (dk_at dksX4_fill_0 20 rfl rfl)
theorem dX4_fill_23 : decode cX4_fill 23 = .ok (.if_icmp .ge 71, 3) := dk_162 0 71 (dk_at dksX4_fill_1 0 rfl rfl)
theorem dX4_fill_26 : decode cX4_fill 26 = .ok (.aload_n 0, 1) := dk_42 (dk_at dksX4_fill_1 3 rfl rfl)
theorem dX4_fill_27 : decode cX4_fill 27 = .ok (.getfield 23, 3) := dk_180 0 23 (dk_at dksX4_fill_1 4 rfl rfl)
theorem dX4_fill_30 : decode cX4_fill 30 = .ok (.iload_n 3, 1) := dk_29 (dk_at dksX4_fill_1 7 rfl rfl)
theorem dX4_fill_31 : decode cX4_fill 31 = .ok (.iaload, 1) := dk_46 (dk_at dksX4_fill_1 8 rfl rfl)
theorem dX4_fill_32 : decode cX4_fill 32 = .ok (.iload_n 1, 1) := dk_27 (dk_at dksX4_fill_1 9 rfl rfl)
theorem dX4_fill_33 : decode cX4_fill 33 = .ok (.if_icmp .ne 17, 3) := dk_160 0 17 (dk_at dksX4_fill_1 10 rfl rfl)
theorem dX4_fill_36 : decode cX4_fill 36 = .ok (.aload_n 0, 1) := dk_42 (dk_at dksX4_fill_1 13 rfl rfl)
theorem dX4_fill_37 : decode cX4_fill 37 = .ok (.getfield 20, 3) := dk_180 0 20 (dk_at dksX4_fill_1 14 rfl rfl)
theorem dX4_fill_40 : decode cX4_fill 40 = .ok (.iload_n 3, 1) := dk_29 (dk_at dksX4_fill_1 17 rfl rfl)
theorem dX4_fill_41 : decode cX4_fill 41 = .ok (.iaload, 1) := dk_46 (dk_at dksX4_fill_1 18 rfl rfl)
theorem dX4_fill_42 : decode cX4_fill 42 = .ok (.iconst 5, 1) := dk_8 (dk_at dksX4_fill_1 19 rfl rfl)
theorem dX4_fill_43 : decode cX4_fill 43 = .ok (.if_icmp .ge 7, 3) := dk_162 0 7 (dk_at dksX4_fill_1 20 rfl rfl)
theorem dX4_fill_46 : decode cX4_fill 46 = .ok (.iconst 1, 1) := dk_4 (dk_at dksX4_fill_1 23 rfl rfl)
theorem dX4_fill_47 : decode cX4_fill 47 = .ok (.goto 4, 3) := dk_167 0 4 (dk_at dksX4_fill_2 0 rfl rfl)
theorem dX4_fill_50 : decode cX4_fill 50 = .ok (.iconst 0, 1) := dk_3 (dk_at dksX4_fill_2 3 rfl rfl)
theorem dX4_fill_51 : decode cX4_fill 51 = .ok (.istore 4, 2) := dk_54 4 (dk_at dksX4_fill_2 4 rfl rfl)
theorem dX4_fill_53 : decode cX4_fill 53 = .ok (.aload_n 0, 1) := dk_42 (dk_at dksX4_fill_2 6 rfl rfl)
theorem dX4_fill_54 : decode cX4_fill 54 = .ok (.getfield 20, 3) := dk_180 0 20 (dk_at dksX4_fill_2 7 rfl rfl)
theorem dX4_fill_57 : decode cX4_fill 57 = .ok (.iload_n 3, 1) := dk_29 (dk_at dksX4_fill_2 10 rfl rfl)
theorem dX4_fill_58 : decode cX4_fill 58 = .ok (.iload 4, 2) := dk_21 4 (dk_at dksX4_fill_2 11 rfl rfl)
theorem dX4_fill_60 : decode cX4_fill 60 = .ok (.ifCond .eq 8, 3) := dk_153 0 8 (dk_at dksX4_fill_2 13 rfl rfl)
theorem dX4_fill_63 : decode cX4_fill 63 = .ok (.bipush 9, 2) := dk_16 9 (dk_at dksX4_fill_2 16 rfl rfl)
theorem dX4_fill_65 : decode cX4_fill 65 = .ok (.goto 9, 3) := dk_167 0 9 (dk_at dksX4_fill_2 18 rfl rfl)
theorem dX4_fill_68 : decode cX4_fill 68 = .ok (.aload_n 0, 1) := dk_42 (dk_at dksX4_fill_2 21 rfl rfl)
theorem dX4_fill_69 : decode cX4_fill 69 = .ok (.getfield 20, 3) := dk_180 0 20 (dk_at dksX4_fill_3 0 rfl rfl)
theorem dX4_fill_72 : decode cX4_fill 72 = .ok (.iload_n 3, 1) := dk_29 (dk_at dksX4_fill_3 3 rfl rfl)
theorem dX4_fill_73 : decode cX4_fill 73 = .ok (.iaload, 1) := dk_46 (dk_at dksX4_fill_3 4 rfl rfl)
theorem dX4_fill_74 : decode cX4_fill 74 = .ok (.iastore, 1) := dk_79 (dk_at dksX4_fill_3 5 rfl rfl)
theorem dX4_fill_75 : decode cX4_fill 75 = .ok (.iload_n 2, 1) := dk_28 (dk_at dksX4_fill_3 6 rfl rfl)
theorem dX4_fill_76 : decode cX4_fill 76 = .ok (.iload 4, 2) := dk_21 4 (dk_at dksX4_fill_3 7 rfl rfl)
theorem dX4_fill_78 : decode cX4_fill 78 = .ok (.ifCond .eq 7, 3) := dk_153 0 7 (dk_at dksX4_fill_3 9 rfl rfl)
theorem dX4_fill_81 : decode cX4_fill 81 = .ok (.iconst 1, 1) := dk_4 (dk_at dksX4_fill_3 12 rfl rfl)
theorem dX4_fill_82 : decode cX4_fill 82 = .ok (.goto 4, 3) := dk_167 0 4 (dk_at dksX4_fill_3 13 rfl rfl)
theorem dX4_fill_85 : decode cX4_fill 85 = .ok (.iconst 0, 1) := dk_3 (dk_at dksX4_fill_3 16 rfl rfl)
theorem dX4_fill_86 : decode cX4_fill 86 = .ok (.iadd, 1) := dk_96 (dk_at dksX4_fill_3 17 rfl rfl)
theorem dX4_fill_87 : decode cX4_fill 87 = .ok (.istore_n 2, 1) := dk_61 (dk_at dksX4_fill_3 18 rfl rfl)
theorem dX4_fill_88 : decode cX4_fill 88 = .ok (.iinc 3 1, 3) := dk_132 3 1 (dk_at dksX4_fill_3 19 rfl rfl)
theorem dX4_fill_91 : decode cX4_fill 91 = .ok (.goto (-73), 3) := dk_167 255 183 (dk_at dksX4_fill_4 0 rfl rfl)
theorem dX4_fill_94 : decode cX4_fill 94 = .ok (.iload_n 2, 1) := dk_28 (dk_at dksX4_fill_4 3 rfl rfl)
theorem dX4_fill_95 : decode cX4_fill 95 = .ok (.ireturn, 1) := dk_172 (dk_at dksX4_fill_4 4 rfl rfl)
abbrev cX4_clear : ByteArray := prog_21_method_49_code
def yX4_clear : MethodName := ⟨RX4, "clear", "(II)I"⟩
def dkwX4_clear_3 : List UInt8 := [182, 1, 17, 132, 3, 1, 132, 4, 1, 167, 255, 208, 29, 172]
abbrev dktX4_clear_3 : List UInt8 := dkwX4_clear_3 ++ []
def dkwX4_clear_2 : List UInt8 := [160, 0, 28, 42, 180, 0, 133, 42, 180, 0, 26, 21, 4, 46, 100, 28, 161, 0, 12, 42, 21, 4]
abbrev dktX4_clear_2 : List UInt8 := dkwX4_clear_2 ++ dktX4_clear_3
def dkwX4_clear_1 : List UInt8 := [2, 172, 3, 62, 3, 54, 4, 21, 4, 42, 180, 0, 105, 162, 0, 45, 42, 180, 0, 23, 21, 4, 46, 27]
abbrev dktX4_clear_1 : List UInt8 := dkwX4_clear_1 ++ dktX4_clear_2
def dkwX4_clear_0 : List UInt8 := [42, 3, 181, 0, 102, 27, 184, 1, 9, 153, 0, 15, 28, 133, 9, 20, 1, 15, 184, 0, 108, 154, 0, 5]
abbrev dktX4_clear_0 : List UInt8 := dkwX4_clear_0 ++ dktX4_clear_1
theorem dksX4_clear_0 : cX4_clear.data.toList.drop 0 = dktX4_clear_0 := by decide +kernel
theorem dksX4_clear_1 : cX4_clear.data.toList.drop 24 = dktX4_clear_1 := dk_seg dksX4_clear_0 24 rfl rfl
theorem dksX4_clear_2 : cX4_clear.data.toList.drop 48 = dktX4_clear_2 := dk_seg dksX4_clear_1 24 rfl rfl
theorem dksX4_clear_3 : cX4_clear.data.toList.drop 70 = dktX4_clear_3 := dk_seg dksX4_clear_2 22 rfl rfl
theorem dX4_clear_0 : decode cX4_clear 0 = .ok (.aload_n 0, 1) := dk_42 (dk_at dksX4_clear_0 0 rfl rfl)
theorem dX4_clear_1 : decode cX4_clear 1 = .ok (.iconst 0, 1) := dk_3 (dk_at dksX4_clear_0 1 rfl rfl)
theorem dX4_clear_2 : decode cX4_clear 2 = .ok (.putfield 102, 3) := dk_181 0 102 (dk_at dksX4_clear_0 2 rfl rfl)
theorem dX4_clear_5 : decode cX4_clear 5 = .ok (.iload_n 1, 1) := dk_27 (dk_at dksX4_clear_0 5 rfl rfl)
theorem dX4_clear_6 : decode cX4_clear 6 = .ok (.invokestatic 265, 3) := dk_184 1 9 (dk_at dksX4_clear_0 6 rfl rfl)
theorem dX4_clear_9 : decode cX4_clear 9 = .ok (.ifCond .eq 15, 3) := dk_153 0 15 (dk_at dksX4_clear_0 9 rfl rfl)
theorem dX4_clear_12 : decode cX4_clear 12 = .ok (.iload_n 2, 1) := dk_28 (dk_at dksX4_clear_0 12 rfl rfl)
theorem dX4_clear_13 : decode cX4_clear 13 = .ok (.i2l, 1) := dk_133 (dk_at dksX4_clear_0 13 rfl rfl)
theorem dX4_clear_14 : decode cX4_clear 14 = .ok (.lconst 0, 1) := dk_9 (dk_at dksX4_clear_0 14 rfl rfl)
theorem dX4_clear_15 : decode cX4_clear 15 = .ok (.ldc2_w 271, 3) := dk_20 1 15 (dk_at dksX4_clear_0 15 rfl rfl)
theorem dX4_clear_18 : decode cX4_clear 18 = .ok (.invokestatic 108, 3) := dk_184 0 108 (dk_at dksX4_clear_0 18 rfl rfl)
theorem dX4_clear_21 : decode cX4_clear 21 = .ok (.ifCond .ne 5, 3) := dk_154 0 5 (dk_at dksX4_clear_0 21 rfl rfl)
theorem dX4_clear_24 : decode cX4_clear 24 = .ok (.iconst (-1), 1) := dk_2 (dk_at dksX4_clear_1 0 rfl rfl)
theorem dX4_clear_25 : decode cX4_clear 25 = .ok (.ireturn, 1) := dk_172 (dk_at dksX4_clear_1 1 rfl rfl)
theorem dX4_clear_26 : decode cX4_clear 26 = .ok (.iconst 0, 1) := dk_3 (dk_at dksX4_clear_1 2 rfl rfl)
theorem dX4_clear_27 : decode cX4_clear 27 = .ok (.istore_n 3, 1) := dk_62 (dk_at dksX4_clear_1 3 rfl rfl)
theorem dX4_clear_28 : decode cX4_clear 28 = .ok (.iconst 0, 1) := dk_3 (dk_at dksX4_clear_1 4 rfl rfl)
theorem dX4_clear_29 : decode cX4_clear 29 = .ok (.istore 4, 2) := dk_54 4 (dk_at dksX4_clear_1 5 rfl rfl)
theorem dX4_clear_31 : decode cX4_clear 31 = .ok (.iload 4, 2) := dk_21 4 (dk_at dksX4_clear_1 7 rfl rfl)
theorem dX4_clear_33 : decode cX4_clear 33 = .ok (.aload_n 0, 1) := dk_42 (dk_at dksX4_clear_1 9 rfl rfl)
theorem dX4_clear_34 : decode cX4_clear 34 = .ok (.getfield 105, 3) := dk_180 0 105 (dk_at dksX4_clear_1 10 rfl rfl)
theorem dX4_clear_37 : decode cX4_clear 37 = .ok (.if_icmp .ge 45, 3) := dk_162 0 45 (dk_at dksX4_clear_1 13 rfl rfl)
theorem dX4_clear_40 : decode cX4_clear 40 = .ok (.aload_n 0, 1) := dk_42 (dk_at dksX4_clear_1 16 rfl rfl)
theorem dX4_clear_41 : decode cX4_clear 41 = .ok (.getfield 23, 3) := dk_180 0 23 (dk_at dksX4_clear_1 17 rfl rfl)
theorem dX4_clear_44 : decode cX4_clear 44 = .ok (.iload 4, 2) := dk_21 4 (dk_at dksX4_clear_1 20 rfl rfl)
theorem dX4_clear_46 : decode cX4_clear 46 = .ok (.iaload, 1) := dk_46 (dk_at dksX4_clear_1 22 rfl rfl)
theorem dX4_clear_47 : decode cX4_clear 47 = .ok (.iload_n 1, 1) := dk_27 (dk_at dksX4_clear_1 23 rfl rfl)
theorem dX4_clear_48 : decode cX4_clear 48 = .ok (.if_icmp .ne 28, 3) := dk_160 0 28 (dk_at dksX4_clear_2 0 rfl rfl)
theorem dX4_clear_51 : decode cX4_clear 51 = .ok (.aload_n 0, 1) := dk_42 (dk_at dksX4_clear_2 3 rfl rfl)
theorem dX4_clear_52 : decode cX4_clear 52 = .ok (.getfield 133, 3) := dk_180 0 133 (dk_at dksX4_clear_2 4 rfl rfl)
theorem dX4_clear_55 : decode cX4_clear 55 = .ok (.aload_n 0, 1) := dk_42 (dk_at dksX4_clear_2 7 rfl rfl)
theorem dX4_clear_56 : decode cX4_clear 56 = .ok (.getfield 26, 3) := dk_180 0 26 (dk_at dksX4_clear_2 8 rfl rfl)
theorem dX4_clear_59 : decode cX4_clear 59 = .ok (.iload 4, 2) := dk_21 4 (dk_at dksX4_clear_2 11 rfl rfl)
theorem dX4_clear_61 : decode cX4_clear 61 = .ok (.iaload, 1) := dk_46 (dk_at dksX4_clear_2 13 rfl rfl)
theorem dX4_clear_62 : decode cX4_clear 62 = .ok (.isub, 1) := dk_100 (dk_at dksX4_clear_2 14 rfl rfl)
theorem dX4_clear_63 : decode cX4_clear 63 = .ok (.iload_n 2, 1) := dk_28 (dk_at dksX4_clear_2 15 rfl rfl)
theorem dX4_clear_64 : decode cX4_clear 64 = .ok (.if_icmp .lt 12, 3) := dk_161 0 12 (dk_at dksX4_clear_2 16 rfl rfl)
theorem dX4_clear_67 : decode cX4_clear 67 = .ok (.aload_n 0, 1) := dk_42 (dk_at dksX4_clear_2 19 rfl rfl)
theorem dX4_clear_68 : decode cX4_clear 68 = .ok (.iload 4, 2) := dk_21 4 (dk_at dksX4_clear_2 20 rfl rfl)
theorem dX4_clear_70 : decode cX4_clear 70 = .ok (.invokevirtual 273, 3) := dk_182 1 17 (dk_at dksX4_clear_3 0 rfl rfl)
theorem dX4_clear_73 : decode cX4_clear 73 = .ok (.iinc 3 1, 3) := dk_132 3 1 (dk_at dksX4_clear_3 3 rfl rfl)
theorem dX4_clear_76 : decode cX4_clear 76 = .ok (.iinc 4 1, 3) := dk_132 4 1 (dk_at dksX4_clear_3 6 rfl rfl)
theorem dX4_clear_79 : decode cX4_clear 79 = .ok (.goto (-48), 3) := dk_167 255 208 (dk_at dksX4_clear_3 9 rfl rfl)
theorem dX4_clear_82 : decode cX4_clear 82 = .ok (.iload_n 3, 1) := dk_29 (dk_at dksX4_clear_3 12 rfl rfl)
theorem dX4_clear_83 : decode cX4_clear 83 = .ok (.ireturn, 1) := dk_172 (dk_at dksX4_clear_3 13 rfl rfl)
abbrev cX4_sink : ByteArray := prog_21_method_48_code
def yX4_sink : MethodName := ⟨RX4, "sink", "(I)V"⟩
def dkwX4_sink_1 : List UInt8 := [180, 0, 32, 27, 3, 79, 42, 180, 0, 20, 27, 3, 79, 177]
abbrev dktX4_sink_1 : List UInt8 := dkwX4_sink_1 ++ []
def dkwX4_sink_0 : List UInt8 := [42, 180, 0, 23, 27, 16, 20, 79, 42, 180, 0, 26, 27, 16, 252, 79, 42, 180, 0, 29, 27, 3, 79, 42]
abbrev dktX4_sink_0 : List UInt8 := dkwX4_sink_0 ++ dktX4_sink_1
theorem dksX4_sink_0 : cX4_sink.data.toList.drop 0 = dktX4_sink_0 := by decide +kernel
theorem dksX4_sink_1 : cX4_sink.data.toList.drop 24 = dktX4_sink_1 := dk_seg dksX4_sink_0 24 rfl rfl
theorem dX4_sink_0 : decode cX4_sink 0 = .ok (.aload_n 0, 1) := dk_42 (dk_at dksX4_sink_0 0 rfl rfl)
theorem dX4_sink_1 : decode cX4_sink 1 = .ok (.getfield 23, 3) := dk_180 0 23 (dk_at dksX4_sink_0 1 rfl rfl)
theorem dX4_sink_4 : decode cX4_sink 4 = .ok (.iload_n 1, 1) := dk_27 (dk_at dksX4_sink_0 4 rfl rfl)
theorem dX4_sink_5 : decode cX4_sink 5 = .ok (.bipush 20, 2) := dk_16 20 (dk_at dksX4_sink_0 5 rfl rfl)
theorem dX4_sink_7 : decode cX4_sink 7 = .ok (.iastore, 1) := dk_79 (dk_at dksX4_sink_0 7 rfl rfl)
theorem dX4_sink_8 : decode cX4_sink 8 = .ok (.aload_n 0, 1) := dk_42 (dk_at dksX4_sink_0 8 rfl rfl)
theorem dX4_sink_9 : decode cX4_sink 9 = .ok (.getfield 26, 3) := dk_180 0 26 (dk_at dksX4_sink_0 9 rfl rfl)
theorem dX4_sink_12 : decode cX4_sink 12 = .ok (.iload_n 1, 1) := dk_27 (dk_at dksX4_sink_0 12 rfl rfl)
theorem dX4_sink_13 : decode cX4_sink 13 = .ok (.bipush (-4), 2) := dk_16 252 (dk_at dksX4_sink_0 13 rfl rfl)
theorem dX4_sink_15 : decode cX4_sink 15 = .ok (.iastore, 1) := dk_79 (dk_at dksX4_sink_0 15 rfl rfl)
theorem dX4_sink_16 : decode cX4_sink 16 = .ok (.aload_n 0, 1) := dk_42 (dk_at dksX4_sink_0 16 rfl rfl)
theorem dX4_sink_17 : decode cX4_sink 17 = .ok (.getfield 29, 3) := dk_180 0 29 (dk_at dksX4_sink_0 17 rfl rfl)
theorem dX4_sink_20 : decode cX4_sink 20 = .ok (.iload_n 1, 1) := dk_27 (dk_at dksX4_sink_0 20 rfl rfl)
theorem dX4_sink_21 : decode cX4_sink 21 = .ok (.iconst 0, 1) := dk_3 (dk_at dksX4_sink_0 21 rfl rfl)
theorem dX4_sink_22 : decode cX4_sink 22 = .ok (.iastore, 1) := dk_79 (dk_at dksX4_sink_0 22 rfl rfl)
theorem dX4_sink_23 : decode cX4_sink 23 = .ok (.aload_n 0, 1) := dk_42 (dk_at dksX4_sink_0 23 rfl rfl)
theorem dX4_sink_24 : decode cX4_sink 24 = .ok (.getfield 32, 3) := dk_180 0 32 (dk_at dksX4_sink_1 0 rfl rfl)
theorem dX4_sink_27 : decode cX4_sink 27 = .ok (.iload_n 1, 1) := dk_27 (dk_at dksX4_sink_1 3 rfl rfl)
theorem dX4_sink_28 : decode cX4_sink 28 = .ok (.iconst 0, 1) := dk_3 (dk_at dksX4_sink_1 4 rfl rfl)
theorem dX4_sink_29 : decode cX4_sink 29 = .ok (.iastore, 1) := dk_79 (dk_at dksX4_sink_1 5 rfl rfl)
theorem dX4_sink_30 : decode cX4_sink 30 = .ok (.aload_n 0, 1) := dk_42 (dk_at dksX4_sink_1 6 rfl rfl)
theorem dX4_sink_31 : decode cX4_sink 31 = .ok (.getfield 20, 3) := dk_180 0 20 (dk_at dksX4_sink_1 7 rfl rfl)
theorem dX4_sink_34 : decode cX4_sink 34 = .ok (.iload_n 1, 1) := dk_27 (dk_at dksX4_sink_1 10 rfl rfl)
theorem dX4_sink_35 : decode cX4_sink 35 = .ok (.iconst 0, 1) := dk_3 (dk_at dksX4_sink_1 11 rfl rfl)
theorem dX4_sink_36 : decode cX4_sink 36 = .ok (.iastore, 1) := dk_79 (dk_at dksX4_sink_1 12 rfl rfl)
theorem dX4_sink_37 : decode cX4_sink 37 = .ok (.return_, 1) := dk_177 (dk_at dksX4_sink_1 13 rfl rfl)
abbrev cX4_minutes : ByteArray := prog_21_method_50_code
def yX4_minutes : MethodName := ⟨RX4, "minutes", "(I)I"⟩
def dkwX4_minutes_1 : List UInt8 := [96, 17, 3, 231, 164, 0, 6, 16, 254, 172, 42, 27, 182, 1, 20, 42, 180, 0, 133, 172]
abbrev dktX4_minutes_1 : List UInt8 := dkwX4_minutes_1 ++ []
def dkwX4_minutes_0 : List UInt8 := [42, 3, 181, 0, 102, 27, 133, 10, 20, 1, 15, 184, 0, 108, 154, 0, 5, 2, 172, 42, 180, 0, 133, 27]
abbrev dktX4_minutes_0 : List UInt8 := dkwX4_minutes_0 ++ dktX4_minutes_1
theorem dksX4_minutes_0 : cX4_minutes.data.toList.drop 0 = dktX4_minutes_0 := by decide +kernel
theorem dksX4_minutes_1 : cX4_minutes.data.toList.drop 24 = dktX4_minutes_1 := dk_seg dksX4_minutes_0 24 rfl rfl
theorem dX4_minutes_0 : decode cX4_minutes 0 = .ok (.aload_n 0, 1) := dk_42 (dk_at dksX4_minutes_0 0 rfl rfl)
theorem dX4_minutes_1 : decode cX4_minutes 1 = .ok (.iconst 0, 1) := dk_3 (dk_at dksX4_minutes_0 1 rfl rfl)
theorem dX4_minutes_2 : decode cX4_minutes 2 = .ok (.putfield 102, 3) := dk_181 0 102 (dk_at dksX4_minutes_0 2 rfl rfl)
theorem dX4_minutes_5 : decode cX4_minutes 5 = .ok (.iload_n 1, 1) := dk_27 (dk_at dksX4_minutes_0 5 rfl rfl)
theorem dX4_minutes_6 : decode cX4_minutes 6 = .ok (.i2l, 1) := dk_133 (dk_at dksX4_minutes_0 6 rfl rfl)
theorem dX4_minutes_7 : decode cX4_minutes 7 = .ok (.lconst 1, 1) := dk_10 (dk_at dksX4_minutes_0 7 rfl rfl)
theorem dX4_minutes_8 : decode cX4_minutes 8 = .ok (.ldc2_w 271, 3) := dk_20 1 15 (dk_at dksX4_minutes_0 8 rfl rfl)
theorem dX4_minutes_11 : decode cX4_minutes 11 = .ok (.invokestatic 108, 3) := dk_184 0 108 (dk_at dksX4_minutes_0 11 rfl rfl)
theorem dX4_minutes_14 : decode cX4_minutes 14 = .ok (.ifCond .ne 5, 3) := dk_154 0 5 (dk_at dksX4_minutes_0 14 rfl rfl)
theorem dX4_minutes_17 : decode cX4_minutes 17 = .ok (.iconst (-1), 1) := dk_2 (dk_at dksX4_minutes_0 17 rfl rfl)
theorem dX4_minutes_18 : decode cX4_minutes 18 = .ok (.ireturn, 1) := dk_172 (dk_at dksX4_minutes_0 18 rfl rfl)
theorem dX4_minutes_19 : decode cX4_minutes 19 = .ok (.aload_n 0, 1) := dk_42 (dk_at dksX4_minutes_0 19 rfl rfl)
theorem dX4_minutes_20 : decode cX4_minutes 20 = .ok (.getfield 133, 3) := dk_180 0 133 (dk_at dksX4_minutes_0 20 rfl rfl)
theorem dX4_minutes_23 : decode cX4_minutes 23 = .ok (.iload_n 1, 1) := dk_27 (dk_at dksX4_minutes_0 23 rfl rfl)
theorem dX4_minutes_24 : decode cX4_minutes 24 = .ok (.iadd, 1) := dk_96 (dk_at dksX4_minutes_1 0 rfl rfl)
theorem dX4_minutes_25 : decode cX4_minutes 25 = .ok (.sipush 999, 3) := dk_17 3 231 (dk_at dksX4_minutes_1 1 rfl rfl)
theorem dX4_minutes_28 : decode cX4_minutes 28 = .ok (.if_icmp .le 6, 3) := dk_164 0 6 (dk_at dksX4_minutes_1 4 rfl rfl)
theorem dX4_minutes_31 : decode cX4_minutes 31 = .ok (.bipush (-2), 2) := dk_16 254 (dk_at dksX4_minutes_1 7 rfl rfl)
theorem dX4_minutes_33 : decode cX4_minutes 33 = .ok (.ireturn, 1) := dk_172 (dk_at dksX4_minutes_1 9 rfl rfl)
theorem dX4_minutes_34 : decode cX4_minutes 34 = .ok (.aload_n 0, 1) := dk_42 (dk_at dksX4_minutes_1 10 rfl rfl)
theorem dX4_minutes_35 : decode cX4_minutes 35 = .ok (.iload_n 1, 1) := dk_27 (dk_at dksX4_minutes_1 11 rfl rfl)
theorem dX4_minutes_36 : decode cX4_minutes 36 = .ok (.invokevirtual 276, 3) := dk_182 1 20 (dk_at dksX4_minutes_1 12 rfl rfl)
theorem dX4_minutes_39 : decode cX4_minutes 39 = .ok (.aload_n 0, 1) := dk_42 (dk_at dksX4_minutes_1 15 rfl rfl)
theorem dX4_minutes_40 : decode cX4_minutes 40 = .ok (.getfield 133, 3) := dk_180 0 133 (dk_at dksX4_minutes_1 16 rfl rfl)
theorem dX4_minutes_43 : decode cX4_minutes 43 = .ok (.ireturn, 1) := dk_172 (dk_at dksX4_minutes_1 19 rfl rfl)
abbrev cX4_goThrough : ByteArray := prog_21_method_27_code
def yX4_goThrough : MethodName := ⟨RX4, "goThrough", "(I)V"⟩
def dkwX4_goThrough_1 : List UInt8 := [167, 255, 244, 177]
abbrev dktX4_goThrough_1 : List UInt8 := dkwX4_goThrough_1 ++ []
def dkwX4_goThrough_0 : List UInt8 := [42, 3, 181, 0, 146, 42, 3, 181, 0, 157, 3, 61, 28, 27, 162, 0, 13, 42, 182, 0, 193, 132, 2, 1]
abbrev dktX4_goThrough_0 : List UInt8 := dkwX4_goThrough_0 ++ dktX4_goThrough_1
theorem dksX4_goThrough_0 : cX4_goThrough.data.toList.drop 0 = dktX4_goThrough_0 := by decide +kernel
theorem dksX4_goThrough_1 : cX4_goThrough.data.toList.drop 24 = dktX4_goThrough_1 := dk_seg dksX4_goThrough_0 24 rfl rfl
theorem dX4_goThrough_0 : decode cX4_goThrough 0 = .ok (.aload_n 0, 1) := dk_42 (dk_at dksX4_goThrough_0 0 rfl rfl)
theorem dX4_goThrough_1 : decode cX4_goThrough 1 = .ok (.iconst 0, 1) := dk_3 (dk_at dksX4_goThrough_0 1 rfl rfl)
theorem dX4_goThrough_2 : decode cX4_goThrough 2 = .ok (.putfield 146, 3) := dk_181 0 146 (dk_at dksX4_goThrough_0 2 rfl rfl)
theorem dX4_goThrough_5 : decode cX4_goThrough 5 = .ok (.aload_n 0, 1) := dk_42 (dk_at dksX4_goThrough_0 5 rfl rfl)
theorem dX4_goThrough_6 : decode cX4_goThrough 6 = .ok (.iconst 0, 1) := dk_3 (dk_at dksX4_goThrough_0 6 rfl rfl)
theorem dX4_goThrough_7 : decode cX4_goThrough 7 = .ok (.putfield 157, 3) := dk_181 0 157 (dk_at dksX4_goThrough_0 7 rfl rfl)
theorem dX4_goThrough_10 : decode cX4_goThrough 10 = .ok (.iconst 0, 1) := dk_3 (dk_at dksX4_goThrough_0 10 rfl rfl)
theorem dX4_goThrough_11 : decode cX4_goThrough 11 = .ok (.istore_n 2, 1) := dk_61 (dk_at dksX4_goThrough_0 11 rfl rfl)
theorem dX4_goThrough_12 : decode cX4_goThrough 12 = .ok (.iload_n 2, 1) := dk_28 (dk_at dksX4_goThrough_0 12 rfl rfl)
theorem dX4_goThrough_13 : decode cX4_goThrough 13 = .ok (.iload_n 1, 1) := dk_27 (dk_at dksX4_goThrough_0 13 rfl rfl)
theorem dX4_goThrough_14 : decode cX4_goThrough 14 = .ok (.if_icmp .ge 13, 3) := dk_162 0 13 (dk_at dksX4_goThrough_0 14 rfl rfl)
theorem dX4_goThrough_17 : decode cX4_goThrough 17 = .ok (.aload_n 0, 1) := dk_42 (dk_at dksX4_goThrough_0 17 rfl rfl)
theorem dX4_goThrough_18 : decode cX4_goThrough 18 = .ok (.invokevirtual 193, 3) := dk_182 0 193 (dk_at dksX4_goThrough_0 18 rfl rfl)
theorem dX4_goThrough_21 : decode cX4_goThrough 21 = .ok (.iinc 2 1, 3) := dk_132 2 1 (dk_at dksX4_goThrough_0 21 rfl rfl)
theorem dX4_goThrough_24 : decode cX4_goThrough 24 = .ok (.goto (-12), 3) := dk_167 255 244 (dk_at dksX4_goThrough_1 0 rfl rfl)
theorem dX4_goThrough_27 : decode cX4_goThrough 27 = .ok (.return_, 1) := dk_177 (dk_at dksX4_goThrough_1 3 rfl rfl)
abbrev cX4_like : ByteArray := prog_21_method_51_code
def yX4_like : MethodName := ⟨RX4, "like", "(II)I"⟩
def dkwX4_like_1 : List UInt8 := [182, 0, 136, 167, 0, 4, 2, 172]
abbrev dktX4_like_1 : List UInt8 := dkwX4_like_1 ++ []
def dkwX4_like_0 : List UInt8 := [42, 3, 181, 0, 102, 42, 27, 182, 0, 232, 153, 0, 20, 42, 28, 182, 0, 232, 153, 0, 12, 42, 27, 28]
abbrev dktX4_like_0 : List UInt8 := dkwX4_like_0 ++ dktX4_like_1
theorem dksX4_like_0 : cX4_like.data.toList.drop 0 = dktX4_like_0 := by decide +kernel
theorem dksX4_like_1 : cX4_like.data.toList.drop 24 = dktX4_like_1 := dk_seg dksX4_like_0 24 rfl rfl
theorem dX4_like_0 : decode cX4_like 0 = .ok (.aload_n 0, 1) := dk_42 (dk_at dksX4_like_0 0 rfl rfl)
theorem dX4_like_1 : decode cX4_like 1 = .ok (.iconst 0, 1) := dk_3 (dk_at dksX4_like_0 1 rfl rfl)
theorem dX4_like_2 : decode cX4_like 2 = .ok (.putfield 102, 3) := dk_181 0 102 (dk_at dksX4_like_0 2 rfl rfl)
theorem dX4_like_5 : decode cX4_like 5 = .ok (.aload_n 0, 1) := dk_42 (dk_at dksX4_like_0 5 rfl rfl)
theorem dX4_like_6 : decode cX4_like 6 = .ok (.iload_n 1, 1) := dk_27 (dk_at dksX4_like_0 6 rfl rfl)
theorem dX4_like_7 : decode cX4_like 7 = .ok (.invokevirtual 232, 3) := dk_182 0 232 (dk_at dksX4_like_0 7 rfl rfl)
theorem dX4_like_10 : decode cX4_like 10 = .ok (.ifCond .eq 20, 3) := dk_153 0 20 (dk_at dksX4_like_0 10 rfl rfl)
theorem dX4_like_13 : decode cX4_like 13 = .ok (.aload_n 0, 1) := dk_42 (dk_at dksX4_like_0 13 rfl rfl)
theorem dX4_like_14 : decode cX4_like 14 = .ok (.iload_n 2, 1) := dk_28 (dk_at dksX4_like_0 14 rfl rfl)
theorem dX4_like_15 : decode cX4_like 15 = .ok (.invokevirtual 232, 3) := dk_182 0 232 (dk_at dksX4_like_0 15 rfl rfl)
theorem dX4_like_18 : decode cX4_like 18 = .ok (.ifCond .eq 12, 3) := dk_153 0 12 (dk_at dksX4_like_0 18 rfl rfl)
theorem dX4_like_21 : decode cX4_like 21 = .ok (.aload_n 0, 1) := dk_42 (dk_at dksX4_like_0 21 rfl rfl)
theorem dX4_like_22 : decode cX4_like 22 = .ok (.iload_n 1, 1) := dk_27 (dk_at dksX4_like_0 22 rfl rfl)
theorem dX4_like_23 : decode cX4_like 23 = .ok (.iload_n 2, 1) := dk_28 (dk_at dksX4_like_0 23 rfl rfl)
theorem dX4_like_24 : decode cX4_like 24 = .ok (.invokevirtual 136, 3) := dk_182 0 136 (dk_at dksX4_like_1 0 rfl rfl)
theorem dX4_like_27 : decode cX4_like 27 = .ok (.goto 4, 3) := dk_167 0 4 (dk_at dksX4_like_1 3 rfl rfl)
theorem dX4_like_30 : decode cX4_like 30 = .ok (.iconst (-1), 1) := dk_2 (dk_at dksX4_like_1 6 rfl rfl)
theorem dX4_like_31 : decode cX4_like 31 = .ok (.ireturn, 1) := dk_172 (dk_at dksX4_like_1 7 rfl rfl)
abbrev cX4_mine : ByteArray := prog_21_method_52_code
def yX4_mine : MethodName := ⟨RX4, "mine", "(I)I"⟩
def dkwX4_mine_0 : List UInt8 := [42, 3, 181, 0, 102, 42, 27, 182, 0, 228, 153, 0, 11, 42, 27, 182, 0, 143, 167, 0, 4, 2, 172]
abbrev dktX4_mine_0 : List UInt8 := dkwX4_mine_0 ++ []
theorem dksX4_mine_0 : cX4_mine.data.toList.drop 0 = dktX4_mine_0 := by decide +kernel
theorem dX4_mine_0 : decode cX4_mine 0 = .ok (.aload_n 0, 1) := dk_42 (dk_at dksX4_mine_0 0 rfl rfl)
theorem dX4_mine_1 : decode cX4_mine 1 = .ok (.iconst 0, 1) := dk_3 (dk_at dksX4_mine_0 1 rfl rfl)
theorem dX4_mine_2 : decode cX4_mine 2 = .ok (.putfield 102, 3) := dk_181 0 102 (dk_at dksX4_mine_0 2 rfl rfl)
theorem dX4_mine_5 : decode cX4_mine 5 = .ok (.aload_n 0, 1) := dk_42 (dk_at dksX4_mine_0 5 rfl rfl)
theorem dX4_mine_6 : decode cX4_mine 6 = .ok (.iload_n 1, 1) := dk_27 (dk_at dksX4_mine_0 6 rfl rfl)
theorem dX4_mine_7 : decode cX4_mine 7 = .ok (.invokevirtual 228, 3) := dk_182 0 228 (dk_at dksX4_mine_0 7 rfl rfl)
theorem dX4_mine_10 : decode cX4_mine 10 = .ok (.ifCond .eq 11, 3) := dk_153 0 11 (dk_at dksX4_mine_0 10 rfl rfl)
theorem dX4_mine_13 : decode cX4_mine 13 = .ok (.aload_n 0, 1) := dk_42 (dk_at dksX4_mine_0 13 rfl rfl)
theorem dX4_mine_14 : decode cX4_mine 14 = .ok (.iload_n 1, 1) := dk_27 (dk_at dksX4_mine_0 14 rfl rfl)
theorem dX4_mine_15 : decode cX4_mine 15 = .ok (.invokevirtual 143, 3) := dk_182 0 143 (dk_at dksX4_mine_0 15 rfl rfl)
theorem dX4_mine_18 : decode cX4_mine 18 = .ok (.goto 4, 3) := dk_167 0 4 (dk_at dksX4_mine_0 18 rfl rfl)
theorem dX4_mine_21 : decode cX4_mine 21 = .ok (.iconst (-1), 1) := dk_2 (dk_at dksX4_mine_0 21 rfl rfl)
theorem dX4_mine_22 : decode cX4_mine 22 = .ok (.ireturn, 1) := dk_172 (dk_at dksX4_mine_0 22 rfl rfl)
abbrev cX4_likely : ByteArray := prog_21_method_54_code
def yX4_likely : MethodName := ⟨RX4, "likely", "(III)I"⟩
def dkwX4_likely_6 : List UInt8 := [184, 1, 23, 54, 6, 29, 154, 0, 11, 21, 5, 21, 6, 108, 167, 0, 8, 21, 4, 21, 6, 108, 172]
abbrev dktX4_likely_6 : List UInt8 := dkwX4_likely_6 ++ []
def dkwX4_likely_5 : List UInt8 := [42, 180, 0, 53, 27, 46, 28, 182, 0, 136, 54, 5, 21, 5, 154, 0, 5, 29, 172, 21, 4, 21, 5]
abbrev dktX4_likely_5 : List UInt8 := dkwX4_likely_5 ++ dktX4_likely_6
def dkwX4_likely_4 : List UInt8 := [180, 0, 53, 27, 46, 21, 5, 182, 0, 136, 167, 0, 4, 3, 96, 54, 4, 132, 5, 1, 167, 255, 207, 42]
abbrev dktX4_likely_4 : List UInt8 := dkwX4_likely_4 ++ dktX4_likely_5
def dkwX4_likely_3 : List UInt8 := [162, 0, 46, 21, 4, 42, 180, 0, 23, 21, 5, 46, 42, 180, 0, 47, 27, 46, 160, 0, 18, 42, 42]
abbrev dktX4_likely_3 : List UInt8 := dkwX4_likely_3 ++ dktX4_likely_4
def dkwX4_likely_2 : List UInt8 := [42, 180, 0, 47, 27, 46, 159, 0, 6, 16, 253, 172, 3, 54, 4, 3, 54, 5, 21, 5, 42, 180, 0, 105]
abbrev dktX4_likely_2 : List UInt8 := dkwX4_likely_2 ++ dktX4_likely_3
def dkwX4_likely_1 : List UInt8 := [10, 184, 0, 108, 154, 0, 5, 2, 172, 42, 180, 0, 53, 27, 46, 155, 0, 18, 42, 180, 0, 23, 28, 46]
abbrev dktX4_likely_1 : List UInt8 := dkwX4_likely_1 ++ dktX4_likely_2
def dkwX4_likely_0 : List UInt8 := [42, 3, 181, 0, 102, 42, 27, 182, 0, 228, 153, 0, 21, 42, 28, 182, 0, 232, 153, 0, 13, 29, 133, 9]
abbrev dktX4_likely_0 : List UInt8 := dkwX4_likely_0 ++ dktX4_likely_1
theorem dksX4_likely_0 : cX4_likely.data.toList.drop 0 = dktX4_likely_0 := by decide +kernel
theorem dksX4_likely_1 : cX4_likely.data.toList.drop 24 = dktX4_likely_1 := dk_seg dksX4_likely_0 24 rfl rfl
theorem dksX4_likely_2 : cX4_likely.data.toList.drop 48 = dktX4_likely_2 := dk_seg dksX4_likely_1 24 rfl rfl
theorem dksX4_likely_3 : cX4_likely.data.toList.drop 72 = dktX4_likely_3 := dk_seg dksX4_likely_2 24 rfl rfl
theorem dksX4_likely_4 : cX4_likely.data.toList.drop 95 = dktX4_likely_4 := dk_seg dksX4_likely_3 23 rfl rfl
theorem dksX4_likely_5 : cX4_likely.data.toList.drop 119 = dktX4_likely_5 := dk_seg dksX4_likely_4 24 rfl rfl
theorem dksX4_likely_6 : cX4_likely.data.toList.drop 142 = dktX4_likely_6 := dk_seg dksX4_likely_5 23 rfl rfl
theorem dX4_likely_0 : decode cX4_likely 0 = .ok (.aload_n 0, 1) := dk_42 (dk_at dksX4_likely_0 0 rfl rfl)
theorem dX4_likely_1 : decode cX4_likely 1 = .ok (.iconst 0, 1) := dk_3 (dk_at dksX4_likely_0 1 rfl rfl)
theorem dX4_likely_2 : decode cX4_likely 2 = .ok (.putfield 102, 3) := dk_181 0 102 (dk_at dksX4_likely_0 2 rfl rfl)
theorem dX4_likely_5 : decode cX4_likely 5 = .ok (.aload_n 0, 1) := dk_42 (dk_at dksX4_likely_0 5 rfl rfl)
theorem dX4_likely_6 : decode cX4_likely 6 = .ok (.iload_n 1, 1) := dk_27 (dk_at dksX4_likely_0 6 rfl rfl)
theorem dX4_likely_7 : decode cX4_likely 7 = .ok (.invokevirtual 228, 3) := dk_182 0 228 (dk_at dksX4_likely_0 7 rfl rfl)
theorem dX4_likely_10 : decode cX4_likely 10 = .ok (.ifCond .eq 21, 3) := dk_153 0 21 (dk_at dksX4_likely_0 10 rfl rfl)
theorem dX4_likely_13 : decode cX4_likely 13 = .ok (.aload_n 0, 1) := dk_42 (dk_at dksX4_likely_0 13 rfl rfl)
theorem dX4_likely_14 : decode cX4_likely 14 = .ok (.iload_n 2, 1) := dk_28 (dk_at dksX4_likely_0 14 rfl rfl)
theorem dX4_likely_15 : decode cX4_likely 15 = .ok (.invokevirtual 232, 3) := dk_182 0 232 (dk_at dksX4_likely_0 15 rfl rfl)
theorem dX4_likely_18 : decode cX4_likely 18 = .ok (.ifCond .eq 13, 3) := dk_153 0 13 (dk_at dksX4_likely_0 18 rfl rfl)
theorem dX4_likely_21 : decode cX4_likely 21 = .ok (.iload_n 3, 1) := dk_29 (dk_at dksX4_likely_0 21 rfl rfl)
theorem dX4_likely_22 : decode cX4_likely 22 = .ok (.i2l, 1) := dk_133 (dk_at dksX4_likely_0 22 rfl rfl)
theorem dX4_likely_23 : decode cX4_likely 23 = .ok (.lconst 0, 1) := dk_9 (dk_at dksX4_likely_0 23 rfl rfl)
theorem dX4_likely_24 : decode cX4_likely 24 = .ok (.lconst 1, 1) := dk_10 (dk_at dksX4_likely_1 0 rfl rfl)
theorem dX4_likely_25 : decode cX4_likely 25 = .ok (.invokestatic 108, 3) := dk_184 0 108 (dk_at dksX4_likely_1 1 rfl rfl)
theorem dX4_likely_28 : decode cX4_likely 28 = .ok (.ifCond .ne 5, 3) := dk_154 0 5 (dk_at dksX4_likely_1 4 rfl rfl)
theorem dX4_likely_31 : decode cX4_likely 31 = .ok (.iconst (-1), 1) := dk_2 (dk_at dksX4_likely_1 7 rfl rfl)
theorem dX4_likely_32 : decode cX4_likely 32 = .ok (.ireturn, 1) := dk_172 (dk_at dksX4_likely_1 8 rfl rfl)
theorem dX4_likely_33 : decode cX4_likely 33 = .ok (.aload_n 0, 1) := dk_42 (dk_at dksX4_likely_1 9 rfl rfl)
theorem dX4_likely_34 : decode cX4_likely 34 = .ok (.getfield 53, 3) := dk_180 0 53 (dk_at dksX4_likely_1 10 rfl rfl)
theorem dX4_likely_37 : decode cX4_likely 37 = .ok (.iload_n 1, 1) := dk_27 (dk_at dksX4_likely_1 13 rfl rfl)
theorem dX4_likely_38 : decode cX4_likely 38 = .ok (.iaload, 1) := dk_46 (dk_at dksX4_likely_1 14 rfl rfl)
theorem dX4_likely_39 : decode cX4_likely 39 = .ok (.ifCond .lt 18, 3) := dk_155 0 18 (dk_at dksX4_likely_1 15 rfl rfl)
theorem dX4_likely_42 : decode cX4_likely 42 = .ok (.aload_n 0, 1) := dk_42 (dk_at dksX4_likely_1 18 rfl rfl)
theorem dX4_likely_43 : decode cX4_likely 43 = .ok (.getfield 23, 3) := dk_180 0 23 (dk_at dksX4_likely_1 19 rfl rfl)
theorem dX4_likely_46 : decode cX4_likely 46 = .ok (.iload_n 2, 1) := dk_28 (dk_at dksX4_likely_1 22 rfl rfl)
theorem dX4_likely_47 : decode cX4_likely 47 = .ok (.iaload, 1) := dk_46 (dk_at dksX4_likely_1 23 rfl rfl)
theorem dX4_likely_48 : decode cX4_likely 48 = .ok (.aload_n 0, 1) := dk_42 (dk_at dksX4_likely_2 0 rfl rfl)
theorem dX4_likely_49 : decode cX4_likely 49 = .ok (.getfield 47, 3) := dk_180 0 47 (dk_at dksX4_likely_2 1 rfl rfl)
theorem dX4_likely_52 : decode cX4_likely 52 = .ok (.iload_n 1, 1) := dk_27 (dk_at dksX4_likely_2 4 rfl rfl)
theorem dX4_likely_53 : decode cX4_likely 53 = .ok (.iaload, 1) := dk_46 (dk_at dksX4_likely_2 5 rfl rfl)
theorem dX4_likely_54 : decode cX4_likely 54 = .ok (.if_icmp .eq 6, 3) := dk_159 0 6 (dk_at dksX4_likely_2 6 rfl rfl)
theorem dX4_likely_57 : decode cX4_likely 57 = .ok (.bipush (-3), 2) := dk_16 253 (dk_at dksX4_likely_2 9 rfl rfl)
theorem dX4_likely_59 : decode cX4_likely 59 = .ok (.ireturn, 1) := dk_172 (dk_at dksX4_likely_2 11 rfl rfl)
theorem dX4_likely_60 : decode cX4_likely 60 = .ok (.iconst 0, 1) := dk_3 (dk_at dksX4_likely_2 12 rfl rfl)
theorem dX4_likely_61 : decode cX4_likely 61 = .ok (.istore 4, 2) := dk_54 4 (dk_at dksX4_likely_2 13 rfl rfl)
theorem dX4_likely_63 : decode cX4_likely 63 = .ok (.iconst 0, 1) := dk_3 (dk_at dksX4_likely_2 15 rfl rfl)
theorem dX4_likely_64 : decode cX4_likely 64 = .ok (.istore 5, 2) := dk_54 5 (dk_at dksX4_likely_2 16 rfl rfl)
theorem dX4_likely_66 : decode cX4_likely 66 = .ok (.iload 5, 2) := dk_21 5 (dk_at dksX4_likely_2 18 rfl rfl)
theorem dX4_likely_68 : decode cX4_likely 68 = .ok (.aload_n 0, 1) := dk_42 (dk_at dksX4_likely_2 20 rfl rfl)
theorem dX4_likely_69 : decode cX4_likely 69 = .ok (.getfield 105, 3) := dk_180 0 105 (dk_at dksX4_likely_2 21 rfl rfl)
theorem dX4_likely_72 : decode cX4_likely 72 = .ok (.if_icmp .ge 46, 3) := dk_162 0 46 (dk_at dksX4_likely_3 0 rfl rfl)
theorem dX4_likely_75 : decode cX4_likely 75 = .ok (.iload 4, 2) := dk_21 4 (dk_at dksX4_likely_3 3 rfl rfl)
theorem dX4_likely_77 : decode cX4_likely 77 = .ok (.aload_n 0, 1) := dk_42 (dk_at dksX4_likely_3 5 rfl rfl)
theorem dX4_likely_78 : decode cX4_likely 78 = .ok (.getfield 23, 3) := dk_180 0 23 (dk_at dksX4_likely_3 6 rfl rfl)
theorem dX4_likely_81 : decode cX4_likely 81 = .ok (.iload 5, 2) := dk_21 5 (dk_at dksX4_likely_3 9 rfl rfl)
theorem dX4_likely_83 : decode cX4_likely 83 = .ok (.iaload, 1) := dk_46 (dk_at dksX4_likely_3 11 rfl rfl)
theorem dX4_likely_84 : decode cX4_likely 84 = .ok (.aload_n 0, 1) := dk_42 (dk_at dksX4_likely_3 12 rfl rfl)
theorem dX4_likely_85 : decode cX4_likely 85 = .ok (.getfield 47, 3) := dk_180 0 47 (dk_at dksX4_likely_3 13 rfl rfl)
theorem dX4_likely_88 : decode cX4_likely 88 = .ok (.iload_n 1, 1) := dk_27 (dk_at dksX4_likely_3 16 rfl rfl)
theorem dX4_likely_89 : decode cX4_likely 89 = .ok (.iaload, 1) := dk_46 (dk_at dksX4_likely_3 17 rfl rfl)
theorem dX4_likely_90 : decode cX4_likely 90 = .ok (.if_icmp .ne 18, 3) := dk_160 0 18 (dk_at dksX4_likely_3 18 rfl rfl)
theorem dX4_likely_93 : decode cX4_likely 93 = .ok (.aload_n 0, 1) := dk_42 (dk_at dksX4_likely_3 21 rfl rfl)
theorem dX4_likely_94 : decode cX4_likely 94 = .ok (.aload_n 0, 1) := dk_42 (dk_at dksX4_likely_3 22 rfl rfl)
theorem dX4_likely_95 : decode cX4_likely 95 = .ok (.getfield 53, 3) := dk_180 0 53 (dk_at dksX4_likely_4 0 rfl rfl)
theorem dX4_likely_98 : decode cX4_likely 98 = .ok (.iload_n 1, 1) := dk_27 (dk_at dksX4_likely_4 3 rfl rfl)
theorem dX4_likely_99 : decode cX4_likely 99 = .ok (.iaload, 1) := dk_46 (dk_at dksX4_likely_4 4 rfl rfl)
theorem dX4_likely_100 : decode cX4_likely 100 = .ok (.iload 5, 2) := dk_21 5 (dk_at dksX4_likely_4 5 rfl rfl)
theorem dX4_likely_102 : decode cX4_likely 102 = .ok (.invokevirtual 136, 3) := dk_182 0 136 (dk_at dksX4_likely_4 7 rfl rfl)
theorem dX4_likely_105 : decode cX4_likely 105 = .ok (.goto 4, 3) := dk_167 0 4 (dk_at dksX4_likely_4 10 rfl rfl)
theorem dX4_likely_108 : decode cX4_likely 108 = .ok (.iconst 0, 1) := dk_3 (dk_at dksX4_likely_4 13 rfl rfl)
theorem dX4_likely_109 : decode cX4_likely 109 = .ok (.iadd, 1) := dk_96 (dk_at dksX4_likely_4 14 rfl rfl)
theorem dX4_likely_110 : decode cX4_likely 110 = .ok (.istore 4, 2) := dk_54 4 (dk_at dksX4_likely_4 15 rfl rfl)
theorem dX4_likely_112 : decode cX4_likely 112 = .ok (.iinc 5 1, 3) := dk_132 5 1 (dk_at dksX4_likely_4 17 rfl rfl)
theorem dX4_likely_115 : decode cX4_likely 115 = .ok (.goto (-49), 3) := dk_167 255 207 (dk_at dksX4_likely_4 20 rfl rfl)
theorem dX4_likely_118 : decode cX4_likely 118 = .ok (.aload_n 0, 1) := dk_42 (dk_at dksX4_likely_4 23 rfl rfl)
theorem dX4_likely_119 : decode cX4_likely 119 = .ok (.aload_n 0, 1) := dk_42 (dk_at dksX4_likely_5 0 rfl rfl)
theorem dX4_likely_120 : decode cX4_likely 120 = .ok (.getfield 53, 3) := dk_180 0 53 (dk_at dksX4_likely_5 1 rfl rfl)
theorem dX4_likely_123 : decode cX4_likely 123 = .ok (.iload_n 1, 1) := dk_27 (dk_at dksX4_likely_5 4 rfl rfl)
theorem dX4_likely_124 : decode cX4_likely 124 = .ok (.iaload, 1) := dk_46 (dk_at dksX4_likely_5 5 rfl rfl)
theorem dX4_likely_125 : decode cX4_likely 125 = .ok (.iload_n 2, 1) := dk_28 (dk_at dksX4_likely_5 6 rfl rfl)
theorem dX4_likely_126 : decode cX4_likely 126 = .ok (.invokevirtual 136, 3) := dk_182 0 136 (dk_at dksX4_likely_5 7 rfl rfl)
theorem dX4_likely_129 : decode cX4_likely 129 = .ok (.istore 5, 2) := dk_54 5 (dk_at dksX4_likely_5 10 rfl rfl)
theorem dX4_likely_131 : decode cX4_likely 131 = .ok (.iload 5, 2) := dk_21 5 (dk_at dksX4_likely_5 12 rfl rfl)
theorem dX4_likely_133 : decode cX4_likely 133 = .ok (.ifCond .ne 5, 3) := dk_154 0 5 (dk_at dksX4_likely_5 14 rfl rfl)
theorem dX4_likely_136 : decode cX4_likely 136 = .ok (.iload_n 3, 1) := dk_29 (dk_at dksX4_likely_5 17 rfl rfl)
theorem dX4_likely_137 : decode cX4_likely 137 = .ok (.ireturn, 1) := dk_172 (dk_at dksX4_likely_5 18 rfl rfl)
theorem dX4_likely_138 : decode cX4_likely 138 = .ok (.iload 4, 2) := dk_21 4 (dk_at dksX4_likely_5 19 rfl rfl)
theorem dX4_likely_140 : decode cX4_likely 140 = .ok (.iload 5, 2) := dk_21 5 (dk_at dksX4_likely_5 21 rfl rfl)
theorem dX4_likely_142 : decode cX4_likely 142 = .ok (.invokestatic 279, 3) := dk_184 1 23 (dk_at dksX4_likely_6 0 rfl rfl)
theorem dX4_likely_145 : decode cX4_likely 145 = .ok (.istore 6, 2) := dk_54 6 (dk_at dksX4_likely_6 3 rfl rfl)
theorem dX4_likely_147 : decode cX4_likely 147 = .ok (.iload_n 3, 1) := dk_29 (dk_at dksX4_likely_6 5 rfl rfl)
theorem dX4_likely_148 : decode cX4_likely 148 = .ok (.ifCond .ne 11, 3) := dk_154 0 11 (dk_at dksX4_likely_6 6 rfl rfl)
theorem dX4_likely_151 : decode cX4_likely 151 = .ok (.iload 5, 2) := dk_21 5 (dk_at dksX4_likely_6 9 rfl rfl)
theorem dX4_likely_153 : decode cX4_likely 153 = .ok (.iload 6, 2) := dk_21 6 (dk_at dksX4_likely_6 11 rfl rfl)
theorem dX4_likely_155 : decode cX4_likely 155 = .ok (.idiv, 1) := dk_108 (dk_at dksX4_likely_6 13 rfl rfl)
theorem dX4_likely_156 : decode cX4_likely 156 = .ok (.goto 8, 3) := dk_167 0 8 (dk_at dksX4_likely_6 14 rfl rfl)
theorem dX4_likely_159 : decode cX4_likely 159 = .ok (.iload 4, 2) := dk_21 4 (dk_at dksX4_likely_6 17 rfl rfl)
theorem dX4_likely_161 : decode cX4_likely 161 = .ok (.iload 6, 2) := dk_21 6 (dk_at dksX4_likely_6 19 rfl rfl)
theorem dX4_likely_163 : decode cX4_likely 163 = .ok (.idiv, 1) := dk_108 (dk_at dksX4_likely_6 21 rfl rfl)
theorem dX4_likely_164 : decode cX4_likely 164 = .ok (.ireturn, 1) := dk_172 (dk_at dksX4_likely_6 22 rfl rfl)
abbrev cX4_divisor : ByteArray := prog_21_method_53_code
def yX4_divisor : MethodName := ⟨RX4, "divisor", "(II)I"⟩
def dkwX4_divisor_0 : List UInt8 := [26, 61, 27, 62, 29, 153, 0, 16, 28, 29, 112, 54, 4, 29, 61, 21, 4, 62, 167, 255, 242, 28, 172]
abbrev dktX4_divisor_0 : List UInt8 := dkwX4_divisor_0 ++ []
theorem dksX4_divisor_0 : cX4_divisor.data.toList.drop 0 = dktX4_divisor_0 := by decide +kernel
theorem dX4_divisor_0 : decode cX4_divisor 0 = .ok (.iload_n 0, 1) := dk_26 (dk_at dksX4_divisor_0 0 rfl rfl)
theorem dX4_divisor_1 : decode cX4_divisor 1 = .ok (.istore_n 2, 1) := dk_61 (dk_at dksX4_divisor_0 1 rfl rfl)
theorem dX4_divisor_2 : decode cX4_divisor 2 = .ok (.iload_n 1, 1) := dk_27 (dk_at dksX4_divisor_0 2 rfl rfl)
theorem dX4_divisor_3 : decode cX4_divisor 3 = .ok (.istore_n 3, 1) := dk_62 (dk_at dksX4_divisor_0 3 rfl rfl)
theorem dX4_divisor_4 : decode cX4_divisor 4 = .ok (.iload_n 3, 1) := dk_29 (dk_at dksX4_divisor_0 4 rfl rfl)
theorem dX4_divisor_5 : decode cX4_divisor 5 = .ok (.ifCond .eq 16, 3) := dk_153 0 16 (dk_at dksX4_divisor_0 5 rfl rfl)
theorem dX4_divisor_8 : decode cX4_divisor 8 = .ok (.iload_n 2, 1) := dk_28 (dk_at dksX4_divisor_0 8 rfl rfl)
theorem dX4_divisor_9 : decode cX4_divisor 9 = .ok (.iload_n 3, 1) := dk_29 (dk_at dksX4_divisor_0 9 rfl rfl)
theorem dX4_divisor_10 : decode cX4_divisor 10 = .ok (.irem, 1) := dk_112 (dk_at dksX4_divisor_0 10 rfl rfl)
theorem dX4_divisor_11 : decode cX4_divisor 11 = .ok (.istore 4, 2) := dk_54 4 (dk_at dksX4_divisor_0 11 rfl rfl)
theorem dX4_divisor_13 : decode cX4_divisor 13 = .ok (.iload_n 3, 1) := dk_29 (dk_at dksX4_divisor_0 13 rfl rfl)
theorem dX4_divisor_14 : decode cX4_divisor 14 = .ok (.istore_n 2, 1) := dk_61 (dk_at dksX4_divisor_0 14 rfl rfl)
theorem dX4_divisor_15 : decode cX4_divisor 15 = .ok (.iload 4, 2) := dk_21 4 (dk_at dksX4_divisor_0 15 rfl rfl)
theorem dX4_divisor_17 : decode cX4_divisor 17 = .ok (.istore_n 3, 1) := dk_62 (dk_at dksX4_divisor_0 17 rfl rfl)
theorem dX4_divisor_18 : decode cX4_divisor 18 = .ok (.goto (-14), 3) := dk_167 255 242 (dk_at dksX4_divisor_0 18 rfl rfl)
theorem dX4_divisor_21 : decode cX4_divisor 21 = .ok (.iload_n 2, 1) := dk_28 (dk_at dksX4_divisor_0 21 rfl rfl)
theorem dX4_divisor_22 : decode cX4_divisor 22 = .ok (.ireturn, 1) := dk_172 (dk_at dksX4_divisor_0 22 rfl rfl)
abbrev cX4_idle : ByteArray := prog_21_method_55_code
def yX4_idle : MethodName := ⟨RX4, "idle", "(I)I"⟩
def dkwX4_idle_4 : List UInt8 := [167, 0, 4, 3, 96, 61, 132, 3, 1, 167, 255, 174, 28, 172]
abbrev dktX4_idle_4 : List UInt8 := dkwX4_idle_4 ++ []
def dkwX4_idle_3 : List UInt8 := [159, 0, 7, 4, 167, 0, 4, 3, 54, 4, 132, 5, 1, 167, 255, 221, 28, 21, 4, 153, 0, 7, 4]
abbrev dktX4_idle_3 : List UInt8 := dkwX4_idle_3 ++ dktX4_idle_4
def dkwX4_idle_2 : List UInt8 := [21, 5, 42, 180, 0, 112, 162, 0, 32, 21, 4, 153, 0, 18, 42, 180, 0, 53, 21, 5, 46, 29]
abbrev dktX4_idle_2 : List UInt8 := dkwX4_idle_2 ++ dktX4_idle_3
def dkwX4_idle_1 : List UInt8 := [162, 0, 80, 42, 180, 0, 23, 29, 46, 27, 160, 0, 7, 4, 167, 0, 4, 3, 54, 4, 3, 54, 5]
abbrev dktX4_idle_1 : List UInt8 := dkwX4_idle_1 ++ dktX4_idle_2
def dkwX4_idle_0 : List UInt8 := [42, 3, 181, 0, 102, 27, 184, 1, 9, 154, 0, 5, 2, 172, 3, 61, 3, 62, 29, 42, 180, 0, 105]
abbrev dktX4_idle_0 : List UInt8 := dkwX4_idle_0 ++ dktX4_idle_1
theorem dksX4_idle_0 : cX4_idle.data.toList.drop 0 = dktX4_idle_0 := by decide +kernel
theorem dksX4_idle_1 : cX4_idle.data.toList.drop 23 = dktX4_idle_1 := dk_seg dksX4_idle_0 23 rfl rfl
theorem dksX4_idle_2 : cX4_idle.data.toList.drop 46 = dktX4_idle_2 := dk_seg dksX4_idle_1 23 rfl rfl
theorem dksX4_idle_3 : cX4_idle.data.toList.drop 68 = dktX4_idle_3 := dk_seg dksX4_idle_2 22 rfl rfl
theorem dksX4_idle_4 : cX4_idle.data.toList.drop 91 = dktX4_idle_4 := dk_seg dksX4_idle_3 23 rfl rfl
theorem dX4_idle_0 : decode cX4_idle 0 = .ok (.aload_n 0, 1) := dk_42 (dk_at dksX4_idle_0 0 rfl rfl)
theorem dX4_idle_1 : decode cX4_idle 1 = .ok (.iconst 0, 1) := dk_3 (dk_at dksX4_idle_0 1 rfl rfl)
theorem dX4_idle_2 : decode cX4_idle 2 = .ok (.putfield 102, 3) := dk_181 0 102 (dk_at dksX4_idle_0 2 rfl rfl)
theorem dX4_idle_5 : decode cX4_idle 5 = .ok (.iload_n 1, 1) := dk_27 (dk_at dksX4_idle_0 5 rfl rfl)
theorem dX4_idle_6 : decode cX4_idle 6 = .ok (.invokestatic 265, 3) := dk_184 1 9 (dk_at dksX4_idle_0 6 rfl rfl)
theorem dX4_idle_9 : decode cX4_idle 9 = .ok (.ifCond .ne 5, 3) := dk_154 0 5 (dk_at dksX4_idle_0 9 rfl rfl)
theorem dX4_idle_12 : decode cX4_idle 12 = .ok (.iconst (-1), 1) := dk_2 (dk_at dksX4_idle_0 12 rfl rfl)
theorem dX4_idle_13 : decode cX4_idle 13 = .ok (.ireturn, 1) := dk_172 (dk_at dksX4_idle_0 13 rfl rfl)
theorem dX4_idle_14 : decode cX4_idle 14 = .ok (.iconst 0, 1) := dk_3 (dk_at dksX4_idle_0 14 rfl rfl)
theorem dX4_idle_15 : decode cX4_idle 15 = .ok (.istore_n 2, 1) := dk_61 (dk_at dksX4_idle_0 15 rfl rfl)
theorem dX4_idle_16 : decode cX4_idle 16 = .ok (.iconst 0, 1) := dk_3 (dk_at dksX4_idle_0 16 rfl rfl)
theorem dX4_idle_17 : decode cX4_idle 17 = .ok (.istore_n 3, 1) := dk_62 (dk_at dksX4_idle_0 17 rfl rfl)
theorem dX4_idle_18 : decode cX4_idle 18 = .ok (.iload_n 3, 1) := dk_29 (dk_at dksX4_idle_0 18 rfl rfl)
theorem dX4_idle_19 : decode cX4_idle 19 = .ok (.aload_n 0, 1) := dk_42 (dk_at dksX4_idle_0 19 rfl rfl)
theorem dX4_idle_20 : decode cX4_idle 20 = .ok (.getfield 105, 3) := dk_180 0 105 (dk_at dksX4_idle_0 20 rfl rfl)
theorem dX4_idle_23 : decode cX4_idle 23 = .ok (.if_icmp .ge 80, 3) := dk_162 0 80 (dk_at dksX4_idle_1 0 rfl rfl)
theorem dX4_idle_26 : decode cX4_idle 26 = .ok (.aload_n 0, 1) := dk_42 (dk_at dksX4_idle_1 3 rfl rfl)
theorem dX4_idle_27 : decode cX4_idle 27 = .ok (.getfield 23, 3) := dk_180 0 23 (dk_at dksX4_idle_1 4 rfl rfl)
theorem dX4_idle_30 : decode cX4_idle 30 = .ok (.iload_n 3, 1) := dk_29 (dk_at dksX4_idle_1 7 rfl rfl)
theorem dX4_idle_31 : decode cX4_idle 31 = .ok (.iaload, 1) := dk_46 (dk_at dksX4_idle_1 8 rfl rfl)
theorem dX4_idle_32 : decode cX4_idle 32 = .ok (.iload_n 1, 1) := dk_27 (dk_at dksX4_idle_1 9 rfl rfl)
theorem dX4_idle_33 : decode cX4_idle 33 = .ok (.if_icmp .ne 7, 3) := dk_160 0 7 (dk_at dksX4_idle_1 10 rfl rfl)
theorem dX4_idle_36 : decode cX4_idle 36 = .ok (.iconst 1, 1) := dk_4 (dk_at dksX4_idle_1 13 rfl rfl)
theorem dX4_idle_37 : decode cX4_idle 37 = .ok (.goto 4, 3) := dk_167 0 4 (dk_at dksX4_idle_1 14 rfl rfl)
theorem dX4_idle_40 : decode cX4_idle 40 = .ok (.iconst 0, 1) := dk_3 (dk_at dksX4_idle_1 17 rfl rfl)
theorem dX4_idle_41 : decode cX4_idle 41 = .ok (.istore 4, 2) := dk_54 4 (dk_at dksX4_idle_1 18 rfl rfl)
theorem dX4_idle_43 : decode cX4_idle 43 = .ok (.iconst 0, 1) := dk_3 (dk_at dksX4_idle_1 20 rfl rfl)
theorem dX4_idle_44 : decode cX4_idle 44 = .ok (.istore 5, 2) := dk_54 5 (dk_at dksX4_idle_1 21 rfl rfl)
theorem dX4_idle_46 : decode cX4_idle 46 = .ok (.iload 5, 2) := dk_21 5 (dk_at dksX4_idle_2 0 rfl rfl)
theorem dX4_idle_48 : decode cX4_idle 48 = .ok (.aload_n 0, 1) := dk_42 (dk_at dksX4_idle_2 2 rfl rfl)
theorem dX4_idle_49 : decode cX4_idle 49 = .ok (.getfield 112, 3) := dk_180 0 112 (dk_at dksX4_idle_2 3 rfl rfl)
theorem dX4_idle_52 : decode cX4_idle 52 = .ok (.if_icmp .ge 32, 3) := dk_162 0 32 (dk_at dksX4_idle_2 6 rfl rfl)
theorem dX4_idle_55 : decode cX4_idle 55 = .ok (.iload 4, 2) := dk_21 4 (dk_at dksX4_idle_2 9 rfl rfl)
theorem dX4_idle_57 : decode cX4_idle 57 = .ok (.ifCond .eq 18, 3) := dk_153 0 18 (dk_at dksX4_idle_2 11 rfl rfl)
theorem dX4_idle_60 : decode cX4_idle 60 = .ok (.aload_n 0, 1) := dk_42 (dk_at dksX4_idle_2 14 rfl rfl)
theorem dX4_idle_61 : decode cX4_idle 61 = .ok (.getfield 53, 3) := dk_180 0 53 (dk_at dksX4_idle_2 15 rfl rfl)
theorem dX4_idle_64 : decode cX4_idle 64 = .ok (.iload 5, 2) := dk_21 5 (dk_at dksX4_idle_2 18 rfl rfl)
theorem dX4_idle_66 : decode cX4_idle 66 = .ok (.iaload, 1) := dk_46 (dk_at dksX4_idle_2 20 rfl rfl)
theorem dX4_idle_67 : decode cX4_idle 67 = .ok (.iload_n 3, 1) := dk_29 (dk_at dksX4_idle_2 21 rfl rfl)
theorem dX4_idle_68 : decode cX4_idle 68 = .ok (.if_icmp .eq 7, 3) := dk_159 0 7 (dk_at dksX4_idle_3 0 rfl rfl)
theorem dX4_idle_71 : decode cX4_idle 71 = .ok (.iconst 1, 1) := dk_4 (dk_at dksX4_idle_3 3 rfl rfl)
theorem dX4_idle_72 : decode cX4_idle 72 = .ok (.goto 4, 3) := dk_167 0 4 (dk_at dksX4_idle_3 4 rfl rfl)
theorem dX4_idle_75 : decode cX4_idle 75 = .ok (.iconst 0, 1) := dk_3 (dk_at dksX4_idle_3 7 rfl rfl)
theorem dX4_idle_76 : decode cX4_idle 76 = .ok (.istore 4, 2) := dk_54 4 (dk_at dksX4_idle_3 8 rfl rfl)
theorem dX4_idle_78 : decode cX4_idle 78 = .ok (.iinc 5 1, 3) := dk_132 5 1 (dk_at dksX4_idle_3 10 rfl rfl)
theorem dX4_idle_81 : decode cX4_idle 81 = .ok (.goto (-35), 3) := dk_167 255 221 (dk_at dksX4_idle_3 13 rfl rfl)
theorem dX4_idle_84 : decode cX4_idle 84 = .ok (.iload_n 2, 1) := dk_28 (dk_at dksX4_idle_3 16 rfl rfl)
theorem dX4_idle_85 : decode cX4_idle 85 = .ok (.iload 4, 2) := dk_21 4 (dk_at dksX4_idle_3 17 rfl rfl)
theorem dX4_idle_87 : decode cX4_idle 87 = .ok (.ifCond .eq 7, 3) := dk_153 0 7 (dk_at dksX4_idle_3 19 rfl rfl)
theorem dX4_idle_90 : decode cX4_idle 90 = .ok (.iconst 1, 1) := dk_4 (dk_at dksX4_idle_3 22 rfl rfl)
theorem dX4_idle_91 : decode cX4_idle 91 = .ok (.goto 4, 3) := dk_167 0 4 (dk_at dksX4_idle_4 0 rfl rfl)
theorem dX4_idle_94 : decode cX4_idle 94 = .ok (.iconst 0, 1) := dk_3 (dk_at dksX4_idle_4 3 rfl rfl)
theorem dX4_idle_95 : decode cX4_idle 95 = .ok (.iadd, 1) := dk_96 (dk_at dksX4_idle_4 4 rfl rfl)
theorem dX4_idle_96 : decode cX4_idle 96 = .ok (.istore_n 2, 1) := dk_61 (dk_at dksX4_idle_4 5 rfl rfl)
theorem dX4_idle_97 : decode cX4_idle 97 = .ok (.iinc 3 1, 3) := dk_132 3 1 (dk_at dksX4_idle_4 6 rfl rfl)
theorem dX4_idle_100 : decode cX4_idle 100 = .ok (.goto (-82), 3) := dk_167 255 174 (dk_at dksX4_idle_4 9 rfl rfl)
theorem dX4_idle_103 : decode cX4_idle 103 = .ok (.iload_n 2, 1) := dk_28 (dk_at dksX4_idle_4 12 rfl rfl)
theorem dX4_idle_104 : decode cX4_idle 104 = .ok (.ireturn, 1) := dk_172 (dk_at dksX4_idle_4 13 rfl rfl)
abbrev cX4_oldest : ByteArray := prog_21_method_56_code
def yX4_oldest : MethodName := ⟨RX4, "oldest", "(I)I"⟩
def dkwX4_oldest_2 : List UInt8 := [180, 0, 26, 28, 46, 162, 0, 7, 29, 167, 0, 4, 28, 61, 132, 3, 1, 167, 255, 210, 28, 172]
abbrev dktX4_oldest_2 : List UInt8 := dkwX4_oldest_2 ++ []
def dkwX4_oldest_1 : List UInt8 := [162, 0, 44, 42, 180, 0, 23, 29, 46, 27, 160, 0, 26, 28, 155, 0, 18, 42, 180, 0, 26, 29, 46, 42]
abbrev dktX4_oldest_1 : List UInt8 := dkwX4_oldest_1 ++ dktX4_oldest_2
def dkwX4_oldest_0 : List UInt8 := [42, 3, 181, 0, 102, 27, 184, 1, 9, 154, 0, 5, 2, 172, 16, 252, 61, 3, 62, 29, 42, 180, 0, 105]
abbrev dktX4_oldest_0 : List UInt8 := dkwX4_oldest_0 ++ dktX4_oldest_1
theorem dksX4_oldest_0 : cX4_oldest.data.toList.drop 0 = dktX4_oldest_0 := by decide +kernel
theorem dksX4_oldest_1 : cX4_oldest.data.toList.drop 24 = dktX4_oldest_1 := dk_seg dksX4_oldest_0 24 rfl rfl
theorem dksX4_oldest_2 : cX4_oldest.data.toList.drop 48 = dktX4_oldest_2 := dk_seg dksX4_oldest_1 24 rfl rfl
theorem dX4_oldest_0 : decode cX4_oldest 0 = .ok (.aload_n 0, 1) := dk_42 (dk_at dksX4_oldest_0 0 rfl rfl)
theorem dX4_oldest_1 : decode cX4_oldest 1 = .ok (.iconst 0, 1) := dk_3 (dk_at dksX4_oldest_0 1 rfl rfl)
theorem dX4_oldest_2 : decode cX4_oldest 2 = .ok (.putfield 102, 3) := dk_181 0 102 (dk_at dksX4_oldest_0 2 rfl rfl)
theorem dX4_oldest_5 : decode cX4_oldest 5 = .ok (.iload_n 1, 1) := dk_27 (dk_at dksX4_oldest_0 5 rfl rfl)
theorem dX4_oldest_6 : decode cX4_oldest 6 = .ok (.invokestatic 265, 3) := dk_184 1 9 (dk_at dksX4_oldest_0 6 rfl rfl)
theorem dX4_oldest_9 : decode cX4_oldest 9 = .ok (.ifCond .ne 5, 3) := dk_154 0 5 (dk_at dksX4_oldest_0 9 rfl rfl)
theorem dX4_oldest_12 : decode cX4_oldest 12 = .ok (.iconst (-1), 1) := dk_2 (dk_at dksX4_oldest_0 12 rfl rfl)
theorem dX4_oldest_13 : decode cX4_oldest 13 = .ok (.ireturn, 1) := dk_172 (dk_at dksX4_oldest_0 13 rfl rfl)
theorem dX4_oldest_14 : decode cX4_oldest 14 = .ok (.bipush (-4), 2) := dk_16 252 (dk_at dksX4_oldest_0 14 rfl rfl)
theorem dX4_oldest_16 : decode cX4_oldest 16 = .ok (.istore_n 2, 1) := dk_61 (dk_at dksX4_oldest_0 16 rfl rfl)
theorem dX4_oldest_17 : decode cX4_oldest 17 = .ok (.iconst 0, 1) := dk_3 (dk_at dksX4_oldest_0 17 rfl rfl)
theorem dX4_oldest_18 : decode cX4_oldest 18 = .ok (.istore_n 3, 1) := dk_62 (dk_at dksX4_oldest_0 18 rfl rfl)
theorem dX4_oldest_19 : decode cX4_oldest 19 = .ok (.iload_n 3, 1) := dk_29 (dk_at dksX4_oldest_0 19 rfl rfl)
theorem dX4_oldest_20 : decode cX4_oldest 20 = .ok (.aload_n 0, 1) := dk_42 (dk_at dksX4_oldest_0 20 rfl rfl)
theorem dX4_oldest_21 : decode cX4_oldest 21 = .ok (.getfield 105, 3) := dk_180 0 105 (dk_at dksX4_oldest_0 21 rfl rfl)
theorem dX4_oldest_24 : decode cX4_oldest 24 = .ok (.if_icmp .ge 44, 3) := dk_162 0 44 (dk_at dksX4_oldest_1 0 rfl rfl)
theorem dX4_oldest_27 : decode cX4_oldest 27 = .ok (.aload_n 0, 1) := dk_42 (dk_at dksX4_oldest_1 3 rfl rfl)
theorem dX4_oldest_28 : decode cX4_oldest 28 = .ok (.getfield 23, 3) := dk_180 0 23 (dk_at dksX4_oldest_1 4 rfl rfl)
theorem dX4_oldest_31 : decode cX4_oldest 31 = .ok (.iload_n 3, 1) := dk_29 (dk_at dksX4_oldest_1 7 rfl rfl)
theorem dX4_oldest_32 : decode cX4_oldest 32 = .ok (.iaload, 1) := dk_46 (dk_at dksX4_oldest_1 8 rfl rfl)
theorem dX4_oldest_33 : decode cX4_oldest 33 = .ok (.iload_n 1, 1) := dk_27 (dk_at dksX4_oldest_1 9 rfl rfl)
theorem dX4_oldest_34 : decode cX4_oldest 34 = .ok (.if_icmp .ne 26, 3) := dk_160 0 26 (dk_at dksX4_oldest_1 10 rfl rfl)
theorem dX4_oldest_37 : decode cX4_oldest 37 = .ok (.iload_n 2, 1) := dk_28 (dk_at dksX4_oldest_1 13 rfl rfl)
theorem dX4_oldest_38 : decode cX4_oldest 38 = .ok (.ifCond .lt 18, 3) := dk_155 0 18 (dk_at dksX4_oldest_1 14 rfl rfl)
theorem dX4_oldest_41 : decode cX4_oldest 41 = .ok (.aload_n 0, 1) := dk_42 (dk_at dksX4_oldest_1 17 rfl rfl)
theorem dX4_oldest_42 : decode cX4_oldest 42 = .ok (.getfield 26, 3) := dk_180 0 26 (dk_at dksX4_oldest_1 18 rfl rfl)
theorem dX4_oldest_45 : decode cX4_oldest 45 = .ok (.iload_n 3, 1) := dk_29 (dk_at dksX4_oldest_1 21 rfl rfl)
theorem dX4_oldest_46 : decode cX4_oldest 46 = .ok (.iaload, 1) := dk_46 (dk_at dksX4_oldest_1 22 rfl rfl)
theorem dX4_oldest_47 : decode cX4_oldest 47 = .ok (.aload_n 0, 1) := dk_42 (dk_at dksX4_oldest_1 23 rfl rfl)
theorem dX4_oldest_48 : decode cX4_oldest 48 = .ok (.getfield 26, 3) := dk_180 0 26 (dk_at dksX4_oldest_2 0 rfl rfl)
theorem dX4_oldest_51 : decode cX4_oldest 51 = .ok (.iload_n 2, 1) := dk_28 (dk_at dksX4_oldest_2 3 rfl rfl)
theorem dX4_oldest_52 : decode cX4_oldest 52 = .ok (.iaload, 1) := dk_46 (dk_at dksX4_oldest_2 4 rfl rfl)
theorem dX4_oldest_53 : decode cX4_oldest 53 = .ok (.if_icmp .ge 7, 3) := dk_162 0 7 (dk_at dksX4_oldest_2 5 rfl rfl)
theorem dX4_oldest_56 : decode cX4_oldest 56 = .ok (.iload_n 3, 1) := dk_29 (dk_at dksX4_oldest_2 8 rfl rfl)
theorem dX4_oldest_57 : decode cX4_oldest 57 = .ok (.goto 4, 3) := dk_167 0 4 (dk_at dksX4_oldest_2 9 rfl rfl)
theorem dX4_oldest_60 : decode cX4_oldest 60 = .ok (.iload_n 2, 1) := dk_28 (dk_at dksX4_oldest_2 12 rfl rfl)
theorem dX4_oldest_61 : decode cX4_oldest 61 = .ok (.istore_n 2, 1) := dk_61 (dk_at dksX4_oldest_2 13 rfl rfl)
theorem dX4_oldest_62 : decode cX4_oldest 62 = .ok (.iinc 3 1, 3) := dk_132 3 1 (dk_at dksX4_oldest_2 14 rfl rfl)
theorem dX4_oldest_65 : decode cX4_oldest 65 = .ok (.goto (-46), 3) := dk_167 255 210 (dk_at dksX4_oldest_2 17 rfl rfl)
theorem dX4_oldest_68 : decode cX4_oldest 68 = .ok (.iload_n 2, 1) := dk_28 (dk_at dksX4_oldest_2 20 rfl rfl)
theorem dX4_oldest_69 : decode cX4_oldest 69 = .ok (.ireturn, 1) := dk_172 (dk_at dksX4_oldest_2 21 rfl rfl)
abbrev cX4_mistakes : ByteArray := prog_21_method_58_code
def yX4_mistakes : MethodName := ⟨RX4, "mistakes", "(I)I"⟩
def dkwX4_mistakes_1 : List UInt8 := [182, 1, 0, 42, 180, 0, 146, 172]
abbrev dktX4_mistakes_1 : List UInt8 := dkwX4_mistakes_1 ++ []
def dkwX4_mistakes_0 : List UInt8 := [42, 3, 181, 0, 102, 27, 184, 1, 26, 154, 0, 5, 2, 172, 42, 182, 0, 250, 42, 27, 182, 1, 20, 42]
abbrev dktX4_mistakes_0 : List UInt8 := dkwX4_mistakes_0 ++ dktX4_mistakes_1
theorem dksX4_mistakes_0 : cX4_mistakes.data.toList.drop 0 = dktX4_mistakes_0 := by decide +kernel
theorem dksX4_mistakes_1 : cX4_mistakes.data.toList.drop 24 = dktX4_mistakes_1 := dk_seg dksX4_mistakes_0 24 rfl rfl
theorem dX4_mistakes_0 : decode cX4_mistakes 0 = .ok (.aload_n 0, 1) := dk_42 (dk_at dksX4_mistakes_0 0 rfl rfl)
theorem dX4_mistakes_1 : decode cX4_mistakes 1 = .ok (.iconst 0, 1) := dk_3 (dk_at dksX4_mistakes_0 1 rfl rfl)
theorem dX4_mistakes_2 : decode cX4_mistakes 2 = .ok (.putfield 102, 3) := dk_181 0 102 (dk_at dksX4_mistakes_0 2 rfl rfl)
theorem dX4_mistakes_5 : decode cX4_mistakes 5 = .ok (.iload_n 1, 1) := dk_27 (dk_at dksX4_mistakes_0 5 rfl rfl)
theorem dX4_mistakes_6 : decode cX4_mistakes 6 = .ok (.invokestatic 282, 3) := dk_184 1 26 (dk_at dksX4_mistakes_0 6 rfl rfl)
theorem dX4_mistakes_9 : decode cX4_mistakes 9 = .ok (.ifCond .ne 5, 3) := dk_154 0 5 (dk_at dksX4_mistakes_0 9 rfl rfl)
theorem dX4_mistakes_12 : decode cX4_mistakes 12 = .ok (.iconst (-1), 1) := dk_2 (dk_at dksX4_mistakes_0 12 rfl rfl)
theorem dX4_mistakes_13 : decode cX4_mistakes 13 = .ok (.ireturn, 1) := dk_172 (dk_at dksX4_mistakes_0 13 rfl rfl)
theorem dX4_mistakes_14 : decode cX4_mistakes 14 = .ok (.aload_n 0, 1) := dk_42 (dk_at dksX4_mistakes_0 14 rfl rfl)
theorem dX4_mistakes_15 : decode cX4_mistakes 15 = .ok (.invokevirtual 250, 3) := dk_182 0 250 (dk_at dksX4_mistakes_0 15 rfl rfl)
theorem dX4_mistakes_18 : decode cX4_mistakes 18 = .ok (.aload_n 0, 1) := dk_42 (dk_at dksX4_mistakes_0 18 rfl rfl)
theorem dX4_mistakes_19 : decode cX4_mistakes 19 = .ok (.iload_n 1, 1) := dk_27 (dk_at dksX4_mistakes_0 19 rfl rfl)
theorem dX4_mistakes_20 : decode cX4_mistakes 20 = .ok (.invokevirtual 276, 3) := dk_182 1 20 (dk_at dksX4_mistakes_0 20 rfl rfl)
theorem dX4_mistakes_23 : decode cX4_mistakes 23 = .ok (.aload_n 0, 1) := dk_42 (dk_at dksX4_mistakes_0 23 rfl rfl)
theorem dX4_mistakes_24 : decode cX4_mistakes 24 = .ok (.invokevirtual 256, 3) := dk_182 1 0 (dk_at dksX4_mistakes_1 0 rfl rfl)
theorem dX4_mistakes_27 : decode cX4_mistakes 27 = .ok (.aload_n 0, 1) := dk_42 (dk_at dksX4_mistakes_1 3 rfl rfl)
theorem dX4_mistakes_28 : decode cX4_mistakes 28 = .ok (.getfield 146, 3) := dk_180 0 146 (dk_at dksX4_mistakes_1 4 rfl rfl)
theorem dX4_mistakes_31 : decode cX4_mistakes 31 = .ok (.ireturn, 1) := dk_172 (dk_at dksX4_mistakes_1 7 rfl rfl)
abbrev cX4_isMinutes : ByteArray := prog_21_method_7_code
def yX4_isMinutes : MethodName := ⟨RX4, "isMinutes", "(I)Z"⟩
def dkwX4_isMinutes_0 : List UInt8 := [26, 133, 9, 20, 0, 117, 184, 0, 108, 172]
abbrev dktX4_isMinutes_0 : List UInt8 := dkwX4_isMinutes_0 ++ []
theorem dksX4_isMinutes_0 : cX4_isMinutes.data.toList.drop 0 = dktX4_isMinutes_0 := by decide +kernel
theorem dX4_isMinutes_0 : decode cX4_isMinutes 0 = .ok (.iload_n 0, 1) := dk_26 (dk_at dksX4_isMinutes_0 0 rfl rfl)
theorem dX4_isMinutes_1 : decode cX4_isMinutes 1 = .ok (.i2l, 1) := dk_133 (dk_at dksX4_isMinutes_0 1 rfl rfl)
theorem dX4_isMinutes_2 : decode cX4_isMinutes 2 = .ok (.lconst 0, 1) := dk_9 (dk_at dksX4_isMinutes_0 2 rfl rfl)
theorem dX4_isMinutes_3 : decode cX4_isMinutes 3 = .ok (.ldc2_w 117, 3) := dk_20 0 117 (dk_at dksX4_isMinutes_0 3 rfl rfl)
theorem dX4_isMinutes_6 : decode cX4_isMinutes 6 = .ok (.invokestatic 108, 3) := dk_184 0 108 (dk_at dksX4_isMinutes_0 6 rfl rfl)
theorem dX4_isMinutes_9 : decode cX4_isMinutes 9 = .ok (.ireturn, 1) := dk_172 (dk_at dksX4_isMinutes_0 9 rfl rfl)
abbrev cX4_fresh : ByteArray := prog_21_method_59_code
def yX4_fresh : MethodName := ⟨RX4, "fresh", "(I)I"⟩
def dkwX4_fresh_1 : List UInt8 := [182, 1, 0, 42, 180, 0, 157, 172]
abbrev dktX4_fresh_1 : List UInt8 := dkwX4_fresh_1 ++ []
def dkwX4_fresh_0 : List UInt8 := [42, 3, 181, 0, 102, 27, 184, 1, 26, 154, 0, 5, 2, 172, 42, 182, 0, 250, 42, 27, 182, 1, 20, 42]
abbrev dktX4_fresh_0 : List UInt8 := dkwX4_fresh_0 ++ dktX4_fresh_1
theorem dksX4_fresh_0 : cX4_fresh.data.toList.drop 0 = dktX4_fresh_0 := by decide +kernel
theorem dksX4_fresh_1 : cX4_fresh.data.toList.drop 24 = dktX4_fresh_1 := dk_seg dksX4_fresh_0 24 rfl rfl
theorem dX4_fresh_0 : decode cX4_fresh 0 = .ok (.aload_n 0, 1) := dk_42 (dk_at dksX4_fresh_0 0 rfl rfl)
theorem dX4_fresh_1 : decode cX4_fresh 1 = .ok (.iconst 0, 1) := dk_3 (dk_at dksX4_fresh_0 1 rfl rfl)
theorem dX4_fresh_2 : decode cX4_fresh 2 = .ok (.putfield 102, 3) := dk_181 0 102 (dk_at dksX4_fresh_0 2 rfl rfl)
theorem dX4_fresh_5 : decode cX4_fresh 5 = .ok (.iload_n 1, 1) := dk_27 (dk_at dksX4_fresh_0 5 rfl rfl)
theorem dX4_fresh_6 : decode cX4_fresh 6 = .ok (.invokestatic 282, 3) := dk_184 1 26 (dk_at dksX4_fresh_0 6 rfl rfl)
theorem dX4_fresh_9 : decode cX4_fresh 9 = .ok (.ifCond .ne 5, 3) := dk_154 0 5 (dk_at dksX4_fresh_0 9 rfl rfl)
theorem dX4_fresh_12 : decode cX4_fresh 12 = .ok (.iconst (-1), 1) := dk_2 (dk_at dksX4_fresh_0 12 rfl rfl)
theorem dX4_fresh_13 : decode cX4_fresh 13 = .ok (.ireturn, 1) := dk_172 (dk_at dksX4_fresh_0 13 rfl rfl)
theorem dX4_fresh_14 : decode cX4_fresh 14 = .ok (.aload_n 0, 1) := dk_42 (dk_at dksX4_fresh_0 14 rfl rfl)
theorem dX4_fresh_15 : decode cX4_fresh 15 = .ok (.invokevirtual 250, 3) := dk_182 0 250 (dk_at dksX4_fresh_0 15 rfl rfl)
theorem dX4_fresh_18 : decode cX4_fresh 18 = .ok (.aload_n 0, 1) := dk_42 (dk_at dksX4_fresh_0 18 rfl rfl)
theorem dX4_fresh_19 : decode cX4_fresh 19 = .ok (.iload_n 1, 1) := dk_27 (dk_at dksX4_fresh_0 19 rfl rfl)
theorem dX4_fresh_20 : decode cX4_fresh 20 = .ok (.invokevirtual 276, 3) := dk_182 1 20 (dk_at dksX4_fresh_0 20 rfl rfl)
theorem dX4_fresh_23 : decode cX4_fresh 23 = .ok (.aload_n 0, 1) := dk_42 (dk_at dksX4_fresh_0 23 rfl rfl)
theorem dX4_fresh_24 : decode cX4_fresh 24 = .ok (.invokevirtual 256, 3) := dk_182 1 0 (dk_at dksX4_fresh_1 0 rfl rfl)
theorem dX4_fresh_27 : decode cX4_fresh 27 = .ok (.aload_n 0, 1) := dk_42 (dk_at dksX4_fresh_1 3 rfl rfl)
theorem dX4_fresh_28 : decode cX4_fresh 28 = .ok (.getfield 157, 3) := dk_180 0 157 (dk_at dksX4_fresh_1 4 rfl rfl)
theorem dX4_fresh_31 : decode cX4_fresh 31 = .ok (.ireturn, 1) := dk_172 (dk_at dksX4_fresh_1 7 rfl rfl)
abbrev cX4_colds : ByteArray := prog_21_method_60_code
def yX4_colds : MethodName := ⟨RX4, "colds", "(I)I"⟩
def dkwX4_colds_1 : List UInt8 := [182, 1, 29, 61, 42, 182, 1, 0, 28, 172]
abbrev dktX4_colds_1 : List UInt8 := dkwX4_colds_1 ++ []
def dkwX4_colds_0 : List UInt8 := [42, 3, 181, 0, 102, 27, 184, 1, 26, 154, 0, 5, 2, 172, 42, 182, 0, 250, 42, 27, 182, 1, 20, 42]
abbrev dktX4_colds_0 : List UInt8 := dkwX4_colds_0 ++ dktX4_colds_1
theorem dksX4_colds_0 : cX4_colds.data.toList.drop 0 = dktX4_colds_0 := by decide +kernel
theorem dksX4_colds_1 : cX4_colds.data.toList.drop 24 = dktX4_colds_1 := dk_seg dksX4_colds_0 24 rfl rfl
theorem dX4_colds_0 : decode cX4_colds 0 = .ok (.aload_n 0, 1) := dk_42 (dk_at dksX4_colds_0 0 rfl rfl)
theorem dX4_colds_1 : decode cX4_colds 1 = .ok (.iconst 0, 1) := dk_3 (dk_at dksX4_colds_0 1 rfl rfl)
theorem dX4_colds_2 : decode cX4_colds 2 = .ok (.putfield 102, 3) := dk_181 0 102 (dk_at dksX4_colds_0 2 rfl rfl)
theorem dX4_colds_5 : decode cX4_colds 5 = .ok (.iload_n 1, 1) := dk_27 (dk_at dksX4_colds_0 5 rfl rfl)
theorem dX4_colds_6 : decode cX4_colds 6 = .ok (.invokestatic 282, 3) := dk_184 1 26 (dk_at dksX4_colds_0 6 rfl rfl)
theorem dX4_colds_9 : decode cX4_colds 9 = .ok (.ifCond .ne 5, 3) := dk_154 0 5 (dk_at dksX4_colds_0 9 rfl rfl)
theorem dX4_colds_12 : decode cX4_colds 12 = .ok (.iconst (-1), 1) := dk_2 (dk_at dksX4_colds_0 12 rfl rfl)
theorem dX4_colds_13 : decode cX4_colds 13 = .ok (.ireturn, 1) := dk_172 (dk_at dksX4_colds_0 13 rfl rfl)
theorem dX4_colds_14 : decode cX4_colds 14 = .ok (.aload_n 0, 1) := dk_42 (dk_at dksX4_colds_0 14 rfl rfl)
theorem dX4_colds_15 : decode cX4_colds 15 = .ok (.invokevirtual 250, 3) := dk_182 0 250 (dk_at dksX4_colds_0 15 rfl rfl)
theorem dX4_colds_18 : decode cX4_colds 18 = .ok (.aload_n 0, 1) := dk_42 (dk_at dksX4_colds_0 18 rfl rfl)
theorem dX4_colds_19 : decode cX4_colds 19 = .ok (.iload_n 1, 1) := dk_27 (dk_at dksX4_colds_0 19 rfl rfl)
theorem dX4_colds_20 : decode cX4_colds 20 = .ok (.invokevirtual 276, 3) := dk_182 1 20 (dk_at dksX4_colds_0 20 rfl rfl)
theorem dX4_colds_23 : decode cX4_colds 23 = .ok (.aload_n 0, 1) := dk_42 (dk_at dksX4_colds_0 23 rfl rfl)
theorem dX4_colds_24 : decode cX4_colds 24 = .ok (.invokevirtual 285, 3) := dk_182 1 29 (dk_at dksX4_colds_1 0 rfl rfl)
theorem dX4_colds_27 : decode cX4_colds 27 = .ok (.istore_n 2, 1) := dk_61 (dk_at dksX4_colds_1 3 rfl rfl)
theorem dX4_colds_28 : decode cX4_colds 28 = .ok (.aload_n 0, 1) := dk_42 (dk_at dksX4_colds_1 4 rfl rfl)
theorem dX4_colds_29 : decode cX4_colds 29 = .ok (.invokevirtual 256, 3) := dk_182 1 0 (dk_at dksX4_colds_1 5 rfl rfl)
theorem dX4_colds_32 : decode cX4_colds 32 = .ok (.iload_n 2, 1) := dk_28 (dk_at dksX4_colds_1 8 rfl rfl)
theorem dX4_colds_33 : decode cX4_colds 33 = .ok (.ireturn, 1) := dk_172 (dk_at dksX4_colds_1 9 rfl rfl)
abbrev cX4_coldBits : ByteArray := prog_21_method_57_code
def yX4_coldBits : MethodName := ⟨RX4, "coldBits", "()I"⟩
def dkwX4_coldBits_1 : List UInt8 := [28, 120, 167, 0, 4, 3, 128, 60, 132, 2, 1, 167, 255, 225, 27, 172]
abbrev dktX4_coldBits_1 : List UInt8 := dkwX4_coldBits_1 ++ []
def dkwX4_coldBits_0 : List UInt8 := [3, 60, 3, 61, 28, 42, 180, 0, 112, 162, 0, 29, 27, 42, 180, 0, 59, 28, 46, 4, 160, 0, 9, 4]
abbrev dktX4_coldBits_0 : List UInt8 := dkwX4_coldBits_0 ++ dktX4_coldBits_1
theorem dksX4_coldBits_0 : cX4_coldBits.data.toList.drop 0 = dktX4_coldBits_0 := by decide +kernel
theorem dksX4_coldBits_1 : cX4_coldBits.data.toList.drop 24 = dktX4_coldBits_1 := dk_seg dksX4_coldBits_0 24 rfl rfl
theorem dX4_coldBits_0 : decode cX4_coldBits 0 = .ok (.iconst 0, 1) := dk_3 (dk_at dksX4_coldBits_0 0 rfl rfl)
theorem dX4_coldBits_1 : decode cX4_coldBits 1 = .ok (.istore_n 1, 1) := dk_60 (dk_at dksX4_coldBits_0 1 rfl rfl)
theorem dX4_coldBits_2 : decode cX4_coldBits 2 = .ok (.iconst 0, 1) := dk_3 (dk_at dksX4_coldBits_0 2 rfl rfl)
theorem dX4_coldBits_3 : decode cX4_coldBits 3 = .ok (.istore_n 2, 1) := dk_61 (dk_at dksX4_coldBits_0 3 rfl rfl)
theorem dX4_coldBits_4 : decode cX4_coldBits 4 = .ok (.iload_n 2, 1) := dk_28 (dk_at dksX4_coldBits_0 4 rfl rfl)
theorem dX4_coldBits_5 : decode cX4_coldBits 5 = .ok (.aload_n 0, 1) := dk_42 (dk_at dksX4_coldBits_0 5 rfl rfl)
theorem dX4_coldBits_6 : decode cX4_coldBits 6 = .ok (.getfield 112, 3) := dk_180 0 112 (dk_at dksX4_coldBits_0 6 rfl rfl)
theorem dX4_coldBits_9 : decode cX4_coldBits 9 = .ok (.if_icmp .ge 29, 3) := dk_162 0 29 (dk_at dksX4_coldBits_0 9 rfl rfl)
theorem dX4_coldBits_12 : decode cX4_coldBits 12 = .ok (.iload_n 1, 1) := dk_27 (dk_at dksX4_coldBits_0 12 rfl rfl)
theorem dX4_coldBits_13 : decode cX4_coldBits 13 = .ok (.aload_n 0, 1) := dk_42 (dk_at dksX4_coldBits_0 13 rfl rfl)
theorem dX4_coldBits_14 : decode cX4_coldBits 14 = .ok (.getfield 59, 3) := dk_180 0 59 (dk_at dksX4_coldBits_0 14 rfl rfl)
theorem dX4_coldBits_17 : decode cX4_coldBits 17 = .ok (.iload_n 2, 1) := dk_28 (dk_at dksX4_coldBits_0 17 rfl rfl)
theorem dX4_coldBits_18 : decode cX4_coldBits 18 = .ok (.iaload, 1) := dk_46 (dk_at dksX4_coldBits_0 18 rfl rfl)
theorem dX4_coldBits_19 : decode cX4_coldBits 19 = .ok (.iconst 1, 1) := dk_4 (dk_at dksX4_coldBits_0 19 rfl rfl)
theorem dX4_coldBits_20 : decode cX4_coldBits 20 = .ok (.if_icmp .ne 9, 3) := dk_160 0 9 (dk_at dksX4_coldBits_0 20 rfl rfl)
theorem dX4_coldBits_23 : decode cX4_coldBits 23 = .ok (.iconst 1, 1) := dk_4 (dk_at dksX4_coldBits_0 23 rfl rfl)
theorem dX4_coldBits_24 : decode cX4_coldBits 24 = .ok (.iload_n 2, 1) := dk_28 (dk_at dksX4_coldBits_1 0 rfl rfl)
theorem dX4_coldBits_25 : decode cX4_coldBits 25 = .ok (.ishl, 1) := dk_120 (dk_at dksX4_coldBits_1 1 rfl rfl)
theorem dX4_coldBits_26 : decode cX4_coldBits 26 = .ok (.goto 4, 3) := dk_167 0 4 (dk_at dksX4_coldBits_1 2 rfl rfl)
theorem dX4_coldBits_29 : decode cX4_coldBits 29 = .ok (.iconst 0, 1) := dk_3 (dk_at dksX4_coldBits_1 5 rfl rfl)
theorem dX4_coldBits_30 : decode cX4_coldBits 30 = .ok (.ior, 1) := dk_128 (dk_at dksX4_coldBits_1 6 rfl rfl)
theorem dX4_coldBits_31 : decode cX4_coldBits 31 = .ok (.istore_n 1, 1) := dk_60 (dk_at dksX4_coldBits_1 7 rfl rfl)
theorem dX4_coldBits_32 : decode cX4_coldBits 32 = .ok (.iinc 2 1, 3) := dk_132 2 1 (dk_at dksX4_coldBits_1 8 rfl rfl)
theorem dX4_coldBits_35 : decode cX4_coldBits 35 = .ok (.goto (-31), 3) := dk_167 255 225 (dk_at dksX4_coldBits_1 11 rfl rfl)
theorem dX4_coldBits_38 : decode cX4_coldBits 38 = .ok (.iload_n 1, 1) := dk_27 (dk_at dksX4_coldBits_1 14 rfl rfl)
theorem dX4_coldBits_39 : decode cX4_coldBits 39 = .ok (.ireturn, 1) := dk_172 (dk_at dksX4_coldBits_1 15 rfl rfl)
abbrev cX4_had : ByteArray := prog_21_method_61_code
def yX4_had : MethodName := ⟨RX4, "had", "(II)I"⟩
def dkwX4_had_1 : List UInt8 := [182, 0, 250, 42, 28, 182, 1, 20, 42, 180, 0, 56, 27, 46, 62, 42, 182, 1, 0, 29, 172]
abbrev dktX4_had_1 : List UInt8 := dkwX4_had_1 ++ []
def dkwX4_had_0 : List UInt8 := [42, 3, 181, 0, 102, 42, 27, 182, 0, 228, 153, 0, 10, 28, 184, 1, 26, 154, 0, 5, 2, 172, 42]
abbrev dktX4_had_0 : List UInt8 := dkwX4_had_0 ++ dktX4_had_1
theorem dksX4_had_0 : cX4_had.data.toList.drop 0 = dktX4_had_0 := by decide +kernel
theorem dksX4_had_1 : cX4_had.data.toList.drop 23 = dktX4_had_1 := dk_seg dksX4_had_0 23 rfl rfl
theorem dX4_had_0 : decode cX4_had 0 = .ok (.aload_n 0, 1) := dk_42 (dk_at dksX4_had_0 0 rfl rfl)
theorem dX4_had_1 : decode cX4_had 1 = .ok (.iconst 0, 1) := dk_3 (dk_at dksX4_had_0 1 rfl rfl)
theorem dX4_had_2 : decode cX4_had 2 = .ok (.putfield 102, 3) := dk_181 0 102 (dk_at dksX4_had_0 2 rfl rfl)
theorem dX4_had_5 : decode cX4_had 5 = .ok (.aload_n 0, 1) := dk_42 (dk_at dksX4_had_0 5 rfl rfl)
theorem dX4_had_6 : decode cX4_had 6 = .ok (.iload_n 1, 1) := dk_27 (dk_at dksX4_had_0 6 rfl rfl)
theorem dX4_had_7 : decode cX4_had 7 = .ok (.invokevirtual 228, 3) := dk_182 0 228 (dk_at dksX4_had_0 7 rfl rfl)
theorem dX4_had_10 : decode cX4_had 10 = .ok (.ifCond .eq 10, 3) := dk_153 0 10 (dk_at dksX4_had_0 10 rfl rfl)
theorem dX4_had_13 : decode cX4_had 13 = .ok (.iload_n 2, 1) := dk_28 (dk_at dksX4_had_0 13 rfl rfl)
theorem dX4_had_14 : decode cX4_had 14 = .ok (.invokestatic 282, 3) := dk_184 1 26 (dk_at dksX4_had_0 14 rfl rfl)
theorem dX4_had_17 : decode cX4_had 17 = .ok (.ifCond .ne 5, 3) := dk_154 0 5 (dk_at dksX4_had_0 17 rfl rfl)
theorem dX4_had_20 : decode cX4_had 20 = .ok (.iconst (-1), 1) := dk_2 (dk_at dksX4_had_0 20 rfl rfl)
theorem dX4_had_21 : decode cX4_had 21 = .ok (.ireturn, 1) := dk_172 (dk_at dksX4_had_0 21 rfl rfl)
theorem dX4_had_22 : decode cX4_had 22 = .ok (.aload_n 0, 1) := dk_42 (dk_at dksX4_had_0 22 rfl rfl)
theorem dX4_had_23 : decode cX4_had 23 = .ok (.invokevirtual 250, 3) := dk_182 0 250 (dk_at dksX4_had_1 0 rfl rfl)
theorem dX4_had_26 : decode cX4_had 26 = .ok (.aload_n 0, 1) := dk_42 (dk_at dksX4_had_1 3 rfl rfl)
theorem dX4_had_27 : decode cX4_had 27 = .ok (.iload_n 2, 1) := dk_28 (dk_at dksX4_had_1 4 rfl rfl)
theorem dX4_had_28 : decode cX4_had 28 = .ok (.invokevirtual 276, 3) := dk_182 1 20 (dk_at dksX4_had_1 5 rfl rfl)
theorem dX4_had_31 : decode cX4_had 31 = .ok (.aload_n 0, 1) := dk_42 (dk_at dksX4_had_1 8 rfl rfl)
theorem dX4_had_32 : decode cX4_had 32 = .ok (.getfield 56, 3) := dk_180 0 56 (dk_at dksX4_had_1 9 rfl rfl)
theorem dX4_had_35 : decode cX4_had 35 = .ok (.iload_n 1, 1) := dk_27 (dk_at dksX4_had_1 12 rfl rfl)
theorem dX4_had_36 : decode cX4_had 36 = .ok (.iaload, 1) := dk_46 (dk_at dksX4_had_1 13 rfl rfl)
theorem dX4_had_37 : decode cX4_had 37 = .ok (.istore_n 3, 1) := dk_62 (dk_at dksX4_had_1 14 rfl rfl)
theorem dX4_had_38 : decode cX4_had 38 = .ok (.aload_n 0, 1) := dk_42 (dk_at dksX4_had_1 15 rfl rfl)
theorem dX4_had_39 : decode cX4_had 39 = .ok (.invokevirtual 256, 3) := dk_182 1 0 (dk_at dksX4_had_1 16 rfl rfl)
theorem dX4_had_42 : decode cX4_had 42 = .ok (.iload_n 3, 1) := dk_29 (dk_at dksX4_had_1 19 rfl rfl)
theorem dX4_had_43 : decode cX4_had 43 = .ok (.ireturn, 1) := dk_172 (dk_at dksX4_had_1 20 rfl rfl)
abbrev cX4_where : ByteArray := prog_21_method_62_code
def yX4_where : MethodName := ⟨RX4, "where", "(II)I"⟩
def dkwX4_where_1 : List UInt8 := [182, 0, 250, 42, 28, 182, 1, 20, 42, 180, 0, 23, 27, 46, 62, 42, 182, 1, 0, 29, 172]
abbrev dktX4_where_1 : List UInt8 := dkwX4_where_1 ++ []
def dkwX4_where_0 : List UInt8 := [42, 3, 181, 0, 102, 42, 27, 182, 0, 232, 153, 0, 10, 28, 184, 1, 26, 154, 0, 5, 2, 172, 42]
abbrev dktX4_where_0 : List UInt8 := dkwX4_where_0 ++ dktX4_where_1
theorem dksX4_where_0 : cX4_where.data.toList.drop 0 = dktX4_where_0 := by decide +kernel
theorem dksX4_where_1 : cX4_where.data.toList.drop 23 = dktX4_where_1 := dk_seg dksX4_where_0 23 rfl rfl
theorem dX4_where_0 : decode cX4_where 0 = .ok (.aload_n 0, 1) := dk_42 (dk_at dksX4_where_0 0 rfl rfl)
theorem dX4_where_1 : decode cX4_where 1 = .ok (.iconst 0, 1) := dk_3 (dk_at dksX4_where_0 1 rfl rfl)
theorem dX4_where_2 : decode cX4_where 2 = .ok (.putfield 102, 3) := dk_181 0 102 (dk_at dksX4_where_0 2 rfl rfl)
theorem dX4_where_5 : decode cX4_where 5 = .ok (.aload_n 0, 1) := dk_42 (dk_at dksX4_where_0 5 rfl rfl)
theorem dX4_where_6 : decode cX4_where 6 = .ok (.iload_n 1, 1) := dk_27 (dk_at dksX4_where_0 6 rfl rfl)
theorem dX4_where_7 : decode cX4_where 7 = .ok (.invokevirtual 232, 3) := dk_182 0 232 (dk_at dksX4_where_0 7 rfl rfl)
theorem dX4_where_10 : decode cX4_where 10 = .ok (.ifCond .eq 10, 3) := dk_153 0 10 (dk_at dksX4_where_0 10 rfl rfl)
theorem dX4_where_13 : decode cX4_where 13 = .ok (.iload_n 2, 1) := dk_28 (dk_at dksX4_where_0 13 rfl rfl)
theorem dX4_where_14 : decode cX4_where 14 = .ok (.invokestatic 282, 3) := dk_184 1 26 (dk_at dksX4_where_0 14 rfl rfl)
theorem dX4_where_17 : decode cX4_where 17 = .ok (.ifCond .ne 5, 3) := dk_154 0 5 (dk_at dksX4_where_0 17 rfl rfl)
theorem dX4_where_20 : decode cX4_where 20 = .ok (.iconst (-1), 1) := dk_2 (dk_at dksX4_where_0 20 rfl rfl)
theorem dX4_where_21 : decode cX4_where 21 = .ok (.ireturn, 1) := dk_172 (dk_at dksX4_where_0 21 rfl rfl)
theorem dX4_where_22 : decode cX4_where 22 = .ok (.aload_n 0, 1) := dk_42 (dk_at dksX4_where_0 22 rfl rfl)
theorem dX4_where_23 : decode cX4_where 23 = .ok (.invokevirtual 250, 3) := dk_182 0 250 (dk_at dksX4_where_1 0 rfl rfl)
theorem dX4_where_26 : decode cX4_where 26 = .ok (.aload_n 0, 1) := dk_42 (dk_at dksX4_where_1 3 rfl rfl)
theorem dX4_where_27 : decode cX4_where 27 = .ok (.iload_n 2, 1) := dk_28 (dk_at dksX4_where_1 4 rfl rfl)
theorem dX4_where_28 : decode cX4_where 28 = .ok (.invokevirtual 276, 3) := dk_182 1 20 (dk_at dksX4_where_1 5 rfl rfl)
theorem dX4_where_31 : decode cX4_where 31 = .ok (.aload_n 0, 1) := dk_42 (dk_at dksX4_where_1 8 rfl rfl)
theorem dX4_where_32 : decode cX4_where 32 = .ok (.getfield 23, 3) := dk_180 0 23 (dk_at dksX4_where_1 9 rfl rfl)
theorem dX4_where_35 : decode cX4_where 35 = .ok (.iload_n 1, 1) := dk_27 (dk_at dksX4_where_1 12 rfl rfl)
theorem dX4_where_36 : decode cX4_where 36 = .ok (.iaload, 1) := dk_46 (dk_at dksX4_where_1 13 rfl rfl)
theorem dX4_where_37 : decode cX4_where 37 = .ok (.istore_n 3, 1) := dk_62 (dk_at dksX4_where_1 14 rfl rfl)
theorem dX4_where_38 : decode cX4_where 38 = .ok (.aload_n 0, 1) := dk_42 (dk_at dksX4_where_1 15 rfl rfl)
theorem dX4_where_39 : decode cX4_where 39 = .ok (.invokevirtual 256, 3) := dk_182 1 0 (dk_at dksX4_where_1 16 rfl rfl)
theorem dX4_where_42 : decode cX4_where 42 = .ok (.iload_n 3, 1) := dk_29 (dk_at dksX4_where_1 19 rfl rfl)
theorem dX4_where_43 : decode cX4_where 43 = .ok (.ireturn, 1) := dk_172 (dk_at dksX4_where_1 20 rfl rfl)
abbrev cX4_brought : ByteArray := prog_21_method_64_code
def yX4_brought : MethodName := ⟨RX4, "brought", "(II)I"⟩
def dkwX4_brought_4 : List UInt8 := [182, 1, 0, 29, 172]
abbrev dktX4_brought_4 : List UInt8 := dkwX4_brought_4 ++ []
def dkwX4_brought_3 : List UInt8 := [160, 0, 10, 4, 21, 4, 120, 167, 0, 4, 3, 128, 62, 42, 182, 1, 0, 132, 4, 1, 167, 255, 206, 42]
abbrev dktX4_brought_3 : List UInt8 := dkwX4_brought_3 ++ dktX4_brought_4
def dkwX4_brought_2 : List UInt8 := [162, 0, 47, 42, 182, 1, 0, 42, 21, 4, 182, 1, 32, 42, 28, 182, 1, 20, 29, 42, 182, 1, 29, 27]
abbrev dktX4_brought_2 : List UInt8 := dkwX4_brought_2 ++ dktX4_brought_3
def dkwX4_brought_1 : List UInt8 := [184, 1, 26, 154, 0, 5, 2, 172, 3, 62, 42, 182, 0, 250, 3, 54, 4, 21, 4, 42, 180, 0, 112]
abbrev dktX4_brought_1 : List UInt8 := dkwX4_brought_1 ++ dktX4_brought_2
def dkwX4_brought_0 : List UInt8 := [42, 3, 181, 0, 102, 27, 133, 9, 4, 42, 180, 0, 112, 120, 4, 100, 133, 184, 0, 108, 153, 0, 10, 28]
abbrev dktX4_brought_0 : List UInt8 := dkwX4_brought_0 ++ dktX4_brought_1
theorem dksX4_brought_0 : cX4_brought.data.toList.drop 0 = dktX4_brought_0 := by decide +kernel
theorem dksX4_brought_1 : cX4_brought.data.toList.drop 24 = dktX4_brought_1 := dk_seg dksX4_brought_0 24 rfl rfl
theorem dksX4_brought_2 : cX4_brought.data.toList.drop 47 = dktX4_brought_2 := dk_seg dksX4_brought_1 23 rfl rfl
theorem dksX4_brought_3 : cX4_brought.data.toList.drop 71 = dktX4_brought_3 := dk_seg dksX4_brought_2 24 rfl rfl
theorem dksX4_brought_4 : cX4_brought.data.toList.drop 95 = dktX4_brought_4 := dk_seg dksX4_brought_3 24 rfl rfl
theorem dX4_brought_0 : decode cX4_brought 0 = .ok (.aload_n 0, 1) := dk_42 (dk_at dksX4_brought_0 0 rfl rfl)
theorem dX4_brought_1 : decode cX4_brought 1 = .ok (.iconst 0, 1) := dk_3 (dk_at dksX4_brought_0 1 rfl rfl)
theorem dX4_brought_2 : decode cX4_brought 2 = .ok (.putfield 102, 3) := dk_181 0 102 (dk_at dksX4_brought_0 2 rfl rfl)
theorem dX4_brought_5 : decode cX4_brought 5 = .ok (.iload_n 1, 1) := dk_27 (dk_at dksX4_brought_0 5 rfl rfl)
theorem dX4_brought_6 : decode cX4_brought 6 = .ok (.i2l, 1) := dk_133 (dk_at dksX4_brought_0 6 rfl rfl)
theorem dX4_brought_7 : decode cX4_brought 7 = .ok (.lconst 0, 1) := dk_9 (dk_at dksX4_brought_0 7 rfl rfl)
theorem dX4_brought_8 : decode cX4_brought 8 = .ok (.iconst 1, 1) := dk_4 (dk_at dksX4_brought_0 8 rfl rfl)
theorem dX4_brought_9 : decode cX4_brought 9 = .ok (.aload_n 0, 1) := dk_42 (dk_at dksX4_brought_0 9 rfl rfl)
theorem dX4_brought_10 : decode cX4_brought 10 = .ok (.getfield 112, 3) := dk_180 0 112 (dk_at dksX4_brought_0 10 rfl rfl)
theorem dX4_brought_13 : decode cX4_brought 13 = .ok (.ishl, 1) := dk_120 (dk_at dksX4_brought_0 13 rfl rfl)
theorem dX4_brought_14 : decode cX4_brought 14 = .ok (.iconst 1, 1) := dk_4 (dk_at dksX4_brought_0 14 rfl rfl)
theorem dX4_brought_15 : decode cX4_brought 15 = .ok (.isub, 1) := dk_100 (dk_at dksX4_brought_0 15 rfl rfl)
theorem dX4_brought_16 : decode cX4_brought 16 = .ok (.i2l, 1) := dk_133 (dk_at dksX4_brought_0 16 rfl rfl)
theorem dX4_brought_17 : decode cX4_brought 17 = .ok (.invokestatic 108, 3) := dk_184 0 108 (dk_at dksX4_brought_0 17 rfl rfl)
theorem dX4_brought_20 : decode cX4_brought 20 = .ok (.ifCond .eq 10, 3) := dk_153 0 10 (dk_at dksX4_brought_0 20 rfl rfl)
theorem dX4_brought_23 : decode cX4_brought 23 = .ok (.iload_n 2, 1) := dk_28 (dk_at dksX4_brought_0 23 rfl rfl)
theorem dX4_brought_24 : decode cX4_brought 24 = .ok (.invokestatic 282, 3) := dk_184 1 26 (dk_at dksX4_brought_1 0 rfl rfl)
theorem dX4_brought_27 : decode cX4_brought 27 = .ok (.ifCond .ne 5, 3) := dk_154 0 5 (dk_at dksX4_brought_1 3 rfl rfl)
theorem dX4_brought_30 : decode cX4_brought 30 = .ok (.iconst (-1), 1) := dk_2 (dk_at dksX4_brought_1 6 rfl rfl)
theorem dX4_brought_31 : decode cX4_brought 31 = .ok (.ireturn, 1) := dk_172 (dk_at dksX4_brought_1 7 rfl rfl)
theorem dX4_brought_32 : decode cX4_brought 32 = .ok (.iconst 0, 1) := dk_3 (dk_at dksX4_brought_1 8 rfl rfl)
theorem dX4_brought_33 : decode cX4_brought 33 = .ok (.istore_n 3, 1) := dk_62 (dk_at dksX4_brought_1 9 rfl rfl)
theorem dX4_brought_34 : decode cX4_brought 34 = .ok (.aload_n 0, 1) := dk_42 (dk_at dksX4_brought_1 10 rfl rfl)
theorem dX4_brought_35 : decode cX4_brought 35 = .ok (.invokevirtual 250, 3) := dk_182 0 250 (dk_at dksX4_brought_1 11 rfl rfl)
theorem dX4_brought_38 : decode cX4_brought 38 = .ok (.iconst 0, 1) := dk_3 (dk_at dksX4_brought_1 14 rfl rfl)
theorem dX4_brought_39 : decode cX4_brought 39 = .ok (.istore 4, 2) := dk_54 4 (dk_at dksX4_brought_1 15 rfl rfl)
theorem dX4_brought_41 : decode cX4_brought 41 = .ok (.iload 4, 2) := dk_21 4 (dk_at dksX4_brought_1 17 rfl rfl)
theorem dX4_brought_43 : decode cX4_brought 43 = .ok (.aload_n 0, 1) := dk_42 (dk_at dksX4_brought_1 19 rfl rfl)
theorem dX4_brought_44 : decode cX4_brought 44 = .ok (.getfield 112, 3) := dk_180 0 112 (dk_at dksX4_brought_1 20 rfl rfl)
theorem dX4_brought_47 : decode cX4_brought 47 = .ok (.if_icmp .ge 47, 3) := dk_162 0 47 (dk_at dksX4_brought_2 0 rfl rfl)
theorem dX4_brought_50 : decode cX4_brought 50 = .ok (.aload_n 0, 1) := dk_42 (dk_at dksX4_brought_2 3 rfl rfl)
theorem dX4_brought_51 : decode cX4_brought 51 = .ok (.invokevirtual 256, 3) := dk_182 1 0 (dk_at dksX4_brought_2 4 rfl rfl)
theorem dX4_brought_54 : decode cX4_brought 54 = .ok (.aload_n 0, 1) := dk_42 (dk_at dksX4_brought_2 7 rfl rfl)
theorem dX4_brought_55 : decode cX4_brought 55 = .ok (.iload 4, 2) := dk_21 4 (dk_at dksX4_brought_2 8 rfl rfl)
theorem dX4_brought_57 : decode cX4_brought 57 = .ok (.invokevirtual 288, 3) := dk_182 1 32 (dk_at dksX4_brought_2 10 rfl rfl)
theorem dX4_brought_60 : decode cX4_brought 60 = .ok (.aload_n 0, 1) := dk_42 (dk_at dksX4_brought_2 13 rfl rfl)
theorem dX4_brought_61 : decode cX4_brought 61 = .ok (.iload_n 2, 1) := dk_28 (dk_at dksX4_brought_2 14 rfl rfl)
theorem dX4_brought_62 : decode cX4_brought 62 = .ok (.invokevirtual 276, 3) := dk_182 1 20 (dk_at dksX4_brought_2 15 rfl rfl)
theorem dX4_brought_65 : decode cX4_brought 65 = .ok (.iload_n 3, 1) := dk_29 (dk_at dksX4_brought_2 18 rfl rfl)
theorem dX4_brought_66 : decode cX4_brought 66 = .ok (.aload_n 0, 1) := dk_42 (dk_at dksX4_brought_2 19 rfl rfl)
theorem dX4_brought_67 : decode cX4_brought 67 = .ok (.invokevirtual 285, 3) := dk_182 1 29 (dk_at dksX4_brought_2 20 rfl rfl)
theorem dX4_brought_70 : decode cX4_brought 70 = .ok (.iload_n 1, 1) := dk_27 (dk_at dksX4_brought_2 23 rfl rfl)
theorem dX4_brought_71 : decode cX4_brought 71 = .ok (.if_icmp .ne 10, 3) := dk_160 0 10 (dk_at dksX4_brought_3 0 rfl rfl)
theorem dX4_brought_74 : decode cX4_brought 74 = .ok (.iconst 1, 1) := dk_4 (dk_at dksX4_brought_3 3 rfl rfl)
theorem dX4_brought_75 : decode cX4_brought 75 = .ok (.iload 4, 2) := dk_21 4 (dk_at dksX4_brought_3 4 rfl rfl)
theorem dX4_brought_77 : decode cX4_brought 77 = .ok (.ishl, 1) := dk_120 (dk_at dksX4_brought_3 6 rfl rfl)
theorem dX4_brought_78 : decode cX4_brought 78 = .ok (.goto 4, 3) := dk_167 0 4 (dk_at dksX4_brought_3 7 rfl rfl)
theorem dX4_brought_81 : decode cX4_brought 81 = .ok (.iconst 0, 1) := dk_3 (dk_at dksX4_brought_3 10 rfl rfl)
theorem dX4_brought_82 : decode cX4_brought 82 = .ok (.ior, 1) := dk_128 (dk_at dksX4_brought_3 11 rfl rfl)
theorem dX4_brought_83 : decode cX4_brought 83 = .ok (.istore_n 3, 1) := dk_62 (dk_at dksX4_brought_3 12 rfl rfl)
theorem dX4_brought_84 : decode cX4_brought 84 = .ok (.aload_n 0, 1) := dk_42 (dk_at dksX4_brought_3 13 rfl rfl)
theorem dX4_brought_85 : decode cX4_brought 85 = .ok (.invokevirtual 256, 3) := dk_182 1 0 (dk_at dksX4_brought_3 14 rfl rfl)
theorem dX4_brought_88 : decode cX4_brought 88 = .ok (.iinc 4 1, 3) := dk_132 4 1 (dk_at dksX4_brought_3 17 rfl rfl)
theorem dX4_brought_91 : decode cX4_brought 91 = .ok (.goto (-50), 3) := dk_167 255 206 (dk_at dksX4_brought_3 20 rfl rfl)
theorem dX4_brought_94 : decode cX4_brought 94 = .ok (.aload_n 0, 1) := dk_42 (dk_at dksX4_brought_3 23 rfl rfl)
theorem dX4_brought_95 : decode cX4_brought 95 = .ok (.invokevirtual 256, 3) := dk_182 1 0 (dk_at dksX4_brought_4 0 rfl rfl)
theorem dX4_brought_98 : decode cX4_brought 98 = .ok (.iload_n 3, 1) := dk_29 (dk_at dksX4_brought_4 3 rfl rfl)
theorem dX4_brought_99 : decode cX4_brought 99 = .ok (.ireturn, 1) := dk_172 (dk_at dksX4_brought_4 4 rfl rfl)
abbrev cX4_coldAlone : ByteArray := prog_21_method_63_code
def yX4_coldAlone : MethodName := ⟨RX4, "coldAlone", "(I)V"⟩
def dkwX4_coldAlone_2 : List UInt8 := [167, 255, 231, 177]
abbrev dktX4_coldAlone_2 : List UInt8 := dkwX4_coldAlone_2 ++ []
def dkwX4_coldAlone_1 : List UInt8 := [16, 6, 162, 0, 25, 42, 180, 0, 59, 28, 28, 27, 160, 0, 7, 4, 167, 0, 4, 3, 79, 132, 2, 1]
abbrev dktX4_coldAlone_1 : List UInt8 := dkwX4_coldAlone_1 ++ dktX4_coldAlone_2
def dkwX4_coldAlone_0 : List UInt8 := [3, 61, 28, 16, 12, 162, 0, 16, 42, 180, 0, 32, 28, 3, 79, 132, 2, 1, 167, 255, 240, 3, 61, 28]
abbrev dktX4_coldAlone_0 : List UInt8 := dkwX4_coldAlone_0 ++ dktX4_coldAlone_1
theorem dksX4_coldAlone_0 : cX4_coldAlone.data.toList.drop 0 = dktX4_coldAlone_0 := by decide +kernel
theorem dksX4_coldAlone_1 : cX4_coldAlone.data.toList.drop 24 = dktX4_coldAlone_1 := dk_seg dksX4_coldAlone_0 24 rfl rfl
theorem dksX4_coldAlone_2 : cX4_coldAlone.data.toList.drop 48 = dktX4_coldAlone_2 := dk_seg dksX4_coldAlone_1 24 rfl rfl
theorem dX4_coldAlone_0 : decode cX4_coldAlone 0 = .ok (.iconst 0, 1) := dk_3 (dk_at dksX4_coldAlone_0 0 rfl rfl)
theorem dX4_coldAlone_1 : decode cX4_coldAlone 1 = .ok (.istore_n 2, 1) := dk_61 (dk_at dksX4_coldAlone_0 1 rfl rfl)
theorem dX4_coldAlone_2 : decode cX4_coldAlone 2 = .ok (.iload_n 2, 1) := dk_28 (dk_at dksX4_coldAlone_0 2 rfl rfl)
theorem dX4_coldAlone_3 : decode cX4_coldAlone 3 = .ok (.bipush 12, 2) := dk_16 12 (dk_at dksX4_coldAlone_0 3 rfl rfl)
theorem dX4_coldAlone_5 : decode cX4_coldAlone 5 = .ok (.if_icmp .ge 16, 3) := dk_162 0 16 (dk_at dksX4_coldAlone_0 5 rfl rfl)
theorem dX4_coldAlone_8 : decode cX4_coldAlone 8 = .ok (.aload_n 0, 1) := dk_42 (dk_at dksX4_coldAlone_0 8 rfl rfl)
theorem dX4_coldAlone_9 : decode cX4_coldAlone 9 = .ok (.getfield 32, 3) := dk_180 0 32 (dk_at dksX4_coldAlone_0 9 rfl rfl)
theorem dX4_coldAlone_12 : decode cX4_coldAlone 12 = .ok (.iload_n 2, 1) := dk_28 (dk_at dksX4_coldAlone_0 12 rfl rfl)
theorem dX4_coldAlone_13 : decode cX4_coldAlone 13 = .ok (.iconst 0, 1) := dk_3 (dk_at dksX4_coldAlone_0 13 rfl rfl)
theorem dX4_coldAlone_14 : decode cX4_coldAlone 14 = .ok (.iastore, 1) := dk_79 (dk_at dksX4_coldAlone_0 14 rfl rfl)
theorem dX4_coldAlone_15 : decode cX4_coldAlone 15 = .ok (.iinc 2 1, 3) := dk_132 2 1 (dk_at dksX4_coldAlone_0 15 rfl rfl)
theorem dX4_coldAlone_18 : decode cX4_coldAlone 18 = .ok (.goto (-16), 3) := dk_167 255 240 (dk_at dksX4_coldAlone_0 18 rfl rfl)
theorem dX4_coldAlone_21 : decode cX4_coldAlone 21 = .ok (.iconst 0, 1) := dk_3 (dk_at dksX4_coldAlone_0 21 rfl rfl)
theorem dX4_coldAlone_22 : decode cX4_coldAlone 22 = .ok (.istore_n 2, 1) := dk_61 (dk_at dksX4_coldAlone_0 22 rfl rfl)
theorem dX4_coldAlone_23 : decode cX4_coldAlone 23 = .ok (.iload_n 2, 1) := dk_28 (dk_at dksX4_coldAlone_0 23 rfl rfl)
theorem dX4_coldAlone_24 : decode cX4_coldAlone 24 = .ok (.bipush 6, 2) := dk_16 6 (dk_at dksX4_coldAlone_1 0 rfl rfl)
theorem dX4_coldAlone_26 : decode cX4_coldAlone 26 = .ok (.if_icmp .ge 25, 3) := dk_162 0 25 (dk_at dksX4_coldAlone_1 2 rfl rfl)
theorem dX4_coldAlone_29 : decode cX4_coldAlone 29 = .ok (.aload_n 0, 1) := dk_42 (dk_at dksX4_coldAlone_1 5 rfl rfl)
theorem dX4_coldAlone_30 : decode cX4_coldAlone 30 = .ok (.getfield 59, 3) := dk_180 0 59 (dk_at dksX4_coldAlone_1 6 rfl rfl)
theorem dX4_coldAlone_33 : decode cX4_coldAlone 33 = .ok (.iload_n 2, 1) := dk_28 (dk_at dksX4_coldAlone_1 9 rfl rfl)
theorem dX4_coldAlone_34 : decode cX4_coldAlone 34 = .ok (.iload_n 2, 1) := dk_28 (dk_at dksX4_coldAlone_1 10 rfl rfl)
theorem dX4_coldAlone_35 : decode cX4_coldAlone 35 = .ok (.iload_n 1, 1) := dk_27 (dk_at dksX4_coldAlone_1 11 rfl rfl)
theorem dX4_coldAlone_36 : decode cX4_coldAlone 36 = .ok (.if_icmp .ne 7, 3) := dk_160 0 7 (dk_at dksX4_coldAlone_1 12 rfl rfl)
theorem dX4_coldAlone_39 : decode cX4_coldAlone 39 = .ok (.iconst 1, 1) := dk_4 (dk_at dksX4_coldAlone_1 15 rfl rfl)
theorem dX4_coldAlone_40 : decode cX4_coldAlone 40 = .ok (.goto 4, 3) := dk_167 0 4 (dk_at dksX4_coldAlone_1 16 rfl rfl)
theorem dX4_coldAlone_43 : decode cX4_coldAlone 43 = .ok (.iconst 0, 1) := dk_3 (dk_at dksX4_coldAlone_1 19 rfl rfl)
theorem dX4_coldAlone_44 : decode cX4_coldAlone 44 = .ok (.iastore, 1) := dk_79 (dk_at dksX4_coldAlone_1 20 rfl rfl)
theorem dX4_coldAlone_45 : decode cX4_coldAlone 45 = .ok (.iinc 2 1, 3) := dk_132 2 1 (dk_at dksX4_coldAlone_1 21 rfl rfl)
theorem dX4_coldAlone_48 : decode cX4_coldAlone 48 = .ok (.goto (-25), 3) := dk_167 255 231 (dk_at dksX4_coldAlone_2 0 rfl rfl)
theorem dX4_coldAlone_51 : decode cX4_coldAlone 51 = .ok (.return_, 1) := dk_177 (dk_at dksX4_coldAlone_2 3 rfl rfl)
abbrev cX4_particular : ByteArray := prog_21_method_65_code
def yX4_particular : MethodName := ⟨RX4, "particular", "(I)I"⟩
def dkwX4_particular_4 : List UInt8 := [167, 255, 192, 42, 182, 1, 0, 29, 172]
abbrev dktX4_particular_4 : List UInt8 := dkwX4_particular_4 ++ []
def dkwX4_particular_3 : List UInt8 := [182, 1, 20, 42, 182, 1, 29, 28, 160, 0, 8, 21, 4, 167, 0, 5, 16, 252, 62, 132, 4, 1]
abbrev dktX4_particular_3 : List UInt8 := dkwX4_particular_3 ++ dktX4_particular_4
def dkwX4_particular_2 : List UInt8 := [21, 5, 16, 6, 162, 0, 18, 42, 180, 0, 44, 21, 5, 21, 4, 79, 132, 5, 1, 167, 255, 237, 42, 27]
abbrev dktX4_particular_2 : List UInt8 := dkwX4_particular_2 ++ dktX4_particular_3
def dkwX4_particular_1 : List UInt8 := [182, 0, 250, 3, 54, 4, 21, 4, 16, 10, 162, 0, 63, 29, 156, 0, 59, 42, 182, 1, 0, 3, 54, 5]
abbrev dktX4_particular_1 : List UInt8 := dkwX4_particular_1 ++ dktX4_particular_2
def dkwX4_particular_0 : List UInt8 := [42, 3, 181, 0, 102, 27, 184, 1, 26, 154, 0, 5, 2, 172, 42, 182, 1, 29, 61, 16, 252, 62, 42]
abbrev dktX4_particular_0 : List UInt8 := dkwX4_particular_0 ++ dktX4_particular_1
theorem dksX4_particular_0 : cX4_particular.data.toList.drop 0 = dktX4_particular_0 := by decide +kernel
theorem dksX4_particular_1 : cX4_particular.data.toList.drop 23 = dktX4_particular_1 := dk_seg dksX4_particular_0 23 rfl rfl
theorem dksX4_particular_2 : cX4_particular.data.toList.drop 47 = dktX4_particular_2 := dk_seg dksX4_particular_1 24 rfl rfl
theorem dksX4_particular_3 : cX4_particular.data.toList.drop 71 = dktX4_particular_3 := dk_seg dksX4_particular_2 24 rfl rfl
theorem dksX4_particular_4 : cX4_particular.data.toList.drop 93 = dktX4_particular_4 := dk_seg dksX4_particular_3 22 rfl rfl
theorem dX4_particular_0 : decode cX4_particular 0 = .ok (.aload_n 0, 1) := dk_42 (dk_at dksX4_particular_0 0 rfl rfl)
theorem dX4_particular_1 : decode cX4_particular 1 = .ok (.iconst 0, 1) := dk_3 (dk_at dksX4_particular_0 1 rfl rfl)
theorem dX4_particular_2 : decode cX4_particular 2 = .ok (.putfield 102, 3) := dk_181 0 102 (dk_at dksX4_particular_0 2 rfl rfl)
theorem dX4_particular_5 : decode cX4_particular 5 = .ok (.iload_n 1, 1) := dk_27 (dk_at dksX4_particular_0 5 rfl rfl)
theorem dX4_particular_6 : decode cX4_particular 6 = .ok (.invokestatic 282, 3) := dk_184 1 26 (dk_at dksX4_particular_0 6 rfl rfl)
theorem dX4_particular_9 : decode cX4_particular 9 = .ok (.ifCond .ne 5, 3) := dk_154 0 5 (dk_at dksX4_particular_0 9 rfl rfl)
theorem dX4_particular_12 : decode cX4_particular 12 = .ok (.iconst (-1), 1) := dk_2 (dk_at dksX4_particular_0 12 rfl rfl)
theorem dX4_particular_13 : decode cX4_particular 13 = .ok (.ireturn, 1) := dk_172 (dk_at dksX4_particular_0 13 rfl rfl)
theorem dX4_particular_14 : decode cX4_particular 14 = .ok (.aload_n 0, 1) := dk_42 (dk_at dksX4_particular_0 14 rfl rfl)
theorem dX4_particular_15 : decode cX4_particular 15 = .ok (.invokevirtual 285, 3) := dk_182 1 29 (dk_at dksX4_particular_0 15 rfl rfl)
theorem dX4_particular_18 : decode cX4_particular 18 = .ok (.istore_n 2, 1) := dk_61 (dk_at dksX4_particular_0 18 rfl rfl)
theorem dX4_particular_19 : decode cX4_particular 19 = .ok (.bipush (-4), 2) := dk_16 252 (dk_at dksX4_particular_0 19 rfl rfl)
theorem dX4_particular_21 : decode cX4_particular 21 = .ok (.istore_n 3, 1) := dk_62 (dk_at dksX4_particular_0 21 rfl rfl)
theorem dX4_particular_22 : decode cX4_particular 22 = .ok (.aload_n 0, 1) := dk_42 (dk_at dksX4_particular_0 22 rfl rfl)
theorem dX4_particular_23 : decode cX4_particular 23 = .ok (.invokevirtual 250, 3) := dk_182 0 250 (dk_at dksX4_particular_1 0 rfl rfl)
theorem dX4_particular_26 : decode cX4_particular 26 = .ok (.iconst 0, 1) := dk_3 (dk_at dksX4_particular_1 3 rfl rfl)
theorem dX4_particular_27 : decode cX4_particular 27 = .ok (.istore 4, 2) := dk_54 4 (dk_at dksX4_particular_1 4 rfl rfl)
theorem dX4_particular_29 : decode cX4_particular 29 = .ok (.iload 4, 2) := dk_21 4 (dk_at dksX4_particular_1 6 rfl rfl)
theorem dX4_particular_31 : decode cX4_particular 31 = .ok (.bipush 10, 2) := dk_16 10 (dk_at dksX4_particular_1 8 rfl rfl)
theorem dX4_particular_33 : decode cX4_particular 33 = .ok (.if_icmp .ge 63, 3) := dk_162 0 63 (dk_at dksX4_particular_1 10 rfl rfl)
theorem dX4_particular_36 : decode cX4_particular 36 = .ok (.iload_n 3, 1) := dk_29 (dk_at dksX4_particular_1 13 rfl rfl)
theorem dX4_particular_37 : decode cX4_particular 37 = .ok (.ifCond .ge 59, 3) := dk_156 0 59 (dk_at dksX4_particular_1 14 rfl rfl)
theorem dX4_particular_40 : decode cX4_particular 40 = .ok (.aload_n 0, 1) := dk_42 (dk_at dksX4_particular_1 17 rfl rfl)
theorem dX4_particular_41 : decode cX4_particular 41 = .ok (.invokevirtual 256, 3) := dk_182 1 0 (dk_at dksX4_particular_1 18 rfl rfl)
theorem dX4_particular_44 : decode cX4_particular 44 = .ok (.iconst 0, 1) := dk_3 (dk_at dksX4_particular_1 21 rfl rfl)
theorem dX4_particular_45 : decode cX4_particular 45 = .ok (.istore 5, 2) := dk_54 5 (dk_at dksX4_particular_1 22 rfl rfl)
theorem dX4_particular_47 : decode cX4_particular 47 = .ok (.iload 5, 2) := dk_21 5 (dk_at dksX4_particular_2 0 rfl rfl)
theorem dX4_particular_49 : decode cX4_particular 49 = .ok (.bipush 6, 2) := dk_16 6 (dk_at dksX4_particular_2 2 rfl rfl)
theorem dX4_particular_51 : decode cX4_particular 51 = .ok (.if_icmp .ge 18, 3) := dk_162 0 18 (dk_at dksX4_particular_2 4 rfl rfl)
theorem dX4_particular_54 : decode cX4_particular 54 = .ok (.aload_n 0, 1) := dk_42 (dk_at dksX4_particular_2 7 rfl rfl)
theorem dX4_particular_55 : decode cX4_particular 55 = .ok (.getfield 44, 3) := dk_180 0 44 (dk_at dksX4_particular_2 8 rfl rfl)
theorem dX4_particular_58 : decode cX4_particular 58 = .ok (.iload 5, 2) := dk_21 5 (dk_at dksX4_particular_2 11 rfl rfl)
theorem dX4_particular_60 : decode cX4_particular 60 = .ok (.iload 4, 2) := dk_21 4 (dk_at dksX4_particular_2 13 rfl rfl)
theorem dX4_particular_62 : decode cX4_particular 62 = .ok (.iastore, 1) := dk_79 (dk_at dksX4_particular_2 15 rfl rfl)
theorem dX4_particular_63 : decode cX4_particular 63 = .ok (.iinc 5 1, 3) := dk_132 5 1 (dk_at dksX4_particular_2 16 rfl rfl)
theorem dX4_particular_66 : decode cX4_particular 66 = .ok (.goto (-19), 3) := dk_167 255 237 (dk_at dksX4_particular_2 19 rfl rfl)
theorem dX4_particular_69 : decode cX4_particular 69 = .ok (.aload_n 0, 1) := dk_42 (dk_at dksX4_particular_2 22 rfl rfl)
theorem dX4_particular_70 : decode cX4_particular 70 = .ok (.iload_n 1, 1) := dk_27 (dk_at dksX4_particular_2 23 rfl rfl)
theorem dX4_particular_71 : decode cX4_particular 71 = .ok (.invokevirtual 276, 3) := dk_182 1 20 (dk_at dksX4_particular_3 0 rfl rfl)
theorem dX4_particular_74 : decode cX4_particular 74 = .ok (.aload_n 0, 1) := dk_42 (dk_at dksX4_particular_3 3 rfl rfl)
theorem dX4_particular_75 : decode cX4_particular 75 = .ok (.invokevirtual 285, 3) := dk_182 1 29 (dk_at dksX4_particular_3 4 rfl rfl)
theorem dX4_particular_78 : decode cX4_particular 78 = .ok (.iload_n 2, 1) := dk_28 (dk_at dksX4_particular_3 7 rfl rfl)
theorem dX4_particular_79 : decode cX4_particular 79 = .ok (.if_icmp .ne 8, 3) := dk_160 0 8 (dk_at dksX4_particular_3 8 rfl rfl)
theorem dX4_particular_82 : decode cX4_particular 82 = .ok (.iload 4, 2) := dk_21 4 (dk_at dksX4_particular_3 11 rfl rfl)
theorem dX4_particular_84 : decode cX4_particular 84 = .ok (.goto 5, 3) := dk_167 0 5 (dk_at dksX4_particular_3 13 rfl rfl)
theorem dX4_particular_87 : decode cX4_particular 87 = .ok (.bipush (-4), 2) := dk_16 252 (dk_at dksX4_particular_3 16 rfl rfl)
theorem dX4_particular_89 : decode cX4_particular 89 = .ok (.istore_n 3, 1) := dk_62 (dk_at dksX4_particular_3 18 rfl rfl)
theorem dX4_particular_90 : decode cX4_particular 90 = .ok (.iinc 4 1, 3) := dk_132 4 1 (dk_at dksX4_particular_3 19 rfl rfl)
theorem dX4_particular_93 : decode cX4_particular 93 = .ok (.goto (-64), 3) := dk_167 255 192 (dk_at dksX4_particular_4 0 rfl rfl)
theorem dX4_particular_96 : decode cX4_particular 96 = .ok (.aload_n 0, 1) := dk_42 (dk_at dksX4_particular_4 3 rfl rfl)
theorem dX4_particular_97 : decode cX4_particular 97 = .ok (.invokevirtual 256, 3) := dk_182 1 0 (dk_at dksX4_particular_4 4 rfl rfl)
theorem dX4_particular_100 : decode cX4_particular 100 = .ok (.iload_n 3, 1) := dk_29 (dk_at dksX4_particular_4 7 rfl rfl)
theorem dX4_particular_101 : decode cX4_particular 101 = .ok (.ireturn, 1) := dk_172 (dk_at dksX4_particular_4 8 rfl rfl)
abbrev cX4_mark : ByteArray := prog_21_method_66_code
def yX4_mark : MethodName := ⟨RX4, "mark", "(I)I"⟩
def dkwX4_mark_4 : List UInt8 := [167, 0, 5, 21, 4, 54, 4, 132, 5, 1, 167, 255, 194, 42, 182, 1, 0, 28, 172]
abbrev dktX4_mark_4 : List UInt8 := dkwX4_mark_4 ++ []
def dkwX4_mark_3 : List UInt8 := [162, 0, 8, 21, 5, 167, 0, 4, 28, 61, 42, 180, 0, 146, 21, 4, 162, 0, 10, 42, 180, 0, 146]
abbrev dktX4_mark_3 : List UInt8 := dkwX4_mark_3 ++ dktX4_mark_4
def dkwX4_mark_2 : List UInt8 := [42, 182, 1, 0, 42, 180, 0, 13, 21, 5, 4, 79, 42, 27, 182, 1, 20, 42, 180, 0, 146, 21, 4]
abbrev dktX4_mark_2 : List UInt8 := dkwX4_mark_2 ++ dktX4_mark_3
def dkwX4_mark_1 : List UInt8 := [180, 0, 105, 62, 42, 27, 182, 1, 20, 42, 180, 0, 146, 54, 4, 3, 54, 5, 21, 5, 29, 162, 0, 62]
abbrev dktX4_mark_1 : List UInt8 := dkwX4_mark_1 ++ dktX4_mark_2
def dkwX4_mark_0 : List UInt8 := [42, 3, 181, 0, 102, 27, 184, 1, 26, 154, 0, 5, 2, 172, 16, 252, 61, 42, 182, 0, 250, 42]
abbrev dktX4_mark_0 : List UInt8 := dkwX4_mark_0 ++ dktX4_mark_1
theorem dksX4_mark_0 : cX4_mark.data.toList.drop 0 = dktX4_mark_0 := by decide +kernel
theorem dksX4_mark_1 : cX4_mark.data.toList.drop 22 = dktX4_mark_1 := dk_seg dksX4_mark_0 22 rfl rfl
theorem dksX4_mark_2 : cX4_mark.data.toList.drop 46 = dktX4_mark_2 := dk_seg dksX4_mark_1 24 rfl rfl
theorem dksX4_mark_3 : cX4_mark.data.toList.drop 69 = dktX4_mark_3 := dk_seg dksX4_mark_2 23 rfl rfl
theorem dksX4_mark_4 : cX4_mark.data.toList.drop 92 = dktX4_mark_4 := dk_seg dksX4_mark_3 23 rfl rfl
theorem dX4_mark_0 : decode cX4_mark 0 = .ok (.aload_n 0, 1) := dk_42 (dk_at dksX4_mark_0 0 rfl rfl)
theorem dX4_mark_1 : decode cX4_mark 1 = .ok (.iconst 0, 1) := dk_3 (dk_at dksX4_mark_0 1 rfl rfl)
theorem dX4_mark_2 : decode cX4_mark 2 = .ok (.putfield 102, 3) := dk_181 0 102 (dk_at dksX4_mark_0 2 rfl rfl)
theorem dX4_mark_5 : decode cX4_mark 5 = .ok (.iload_n 1, 1) := dk_27 (dk_at dksX4_mark_0 5 rfl rfl)
theorem dX4_mark_6 : decode cX4_mark 6 = .ok (.invokestatic 282, 3) := dk_184 1 26 (dk_at dksX4_mark_0 6 rfl rfl)
theorem dX4_mark_9 : decode cX4_mark 9 = .ok (.ifCond .ne 5, 3) := dk_154 0 5 (dk_at dksX4_mark_0 9 rfl rfl)
theorem dX4_mark_12 : decode cX4_mark 12 = .ok (.iconst (-1), 1) := dk_2 (dk_at dksX4_mark_0 12 rfl rfl)
theorem dX4_mark_13 : decode cX4_mark 13 = .ok (.ireturn, 1) := dk_172 (dk_at dksX4_mark_0 13 rfl rfl)
theorem dX4_mark_14 : decode cX4_mark 14 = .ok (.bipush (-4), 2) := dk_16 252 (dk_at dksX4_mark_0 14 rfl rfl)
theorem dX4_mark_16 : decode cX4_mark 16 = .ok (.istore_n 2, 1) := dk_61 (dk_at dksX4_mark_0 16 rfl rfl)
theorem dX4_mark_17 : decode cX4_mark 17 = .ok (.aload_n 0, 1) := dk_42 (dk_at dksX4_mark_0 17 rfl rfl)
theorem dX4_mark_18 : decode cX4_mark 18 = .ok (.invokevirtual 250, 3) := dk_182 0 250 (dk_at dksX4_mark_0 18 rfl rfl)
theorem dX4_mark_21 : decode cX4_mark 21 = .ok (.aload_n 0, 1) := dk_42 (dk_at dksX4_mark_0 21 rfl rfl)
theorem dX4_mark_22 : decode cX4_mark 22 = .ok (.getfield 105, 3) := dk_180 0 105 (dk_at dksX4_mark_1 0 rfl rfl)
theorem dX4_mark_25 : decode cX4_mark 25 = .ok (.istore_n 3, 1) := dk_62 (dk_at dksX4_mark_1 3 rfl rfl)
theorem dX4_mark_26 : decode cX4_mark 26 = .ok (.aload_n 0, 1) := dk_42 (dk_at dksX4_mark_1 4 rfl rfl)
theorem dX4_mark_27 : decode cX4_mark 27 = .ok (.iload_n 1, 1) := dk_27 (dk_at dksX4_mark_1 5 rfl rfl)
theorem dX4_mark_28 : decode cX4_mark 28 = .ok (.invokevirtual 276, 3) := dk_182 1 20 (dk_at dksX4_mark_1 6 rfl rfl)
theorem dX4_mark_31 : decode cX4_mark 31 = .ok (.aload_n 0, 1) := dk_42 (dk_at dksX4_mark_1 9 rfl rfl)
theorem dX4_mark_32 : decode cX4_mark 32 = .ok (.getfield 146, 3) := dk_180 0 146 (dk_at dksX4_mark_1 10 rfl rfl)
theorem dX4_mark_35 : decode cX4_mark 35 = .ok (.istore 4, 2) := dk_54 4 (dk_at dksX4_mark_1 13 rfl rfl)
theorem dX4_mark_37 : decode cX4_mark 37 = .ok (.iconst 0, 1) := dk_3 (dk_at dksX4_mark_1 15 rfl rfl)
theorem dX4_mark_38 : decode cX4_mark 38 = .ok (.istore 5, 2) := dk_54 5 (dk_at dksX4_mark_1 16 rfl rfl)
theorem dX4_mark_40 : decode cX4_mark 40 = .ok (.iload 5, 2) := dk_21 5 (dk_at dksX4_mark_1 18 rfl rfl)
theorem dX4_mark_42 : decode cX4_mark 42 = .ok (.iload_n 3, 1) := dk_29 (dk_at dksX4_mark_1 20 rfl rfl)
theorem dX4_mark_43 : decode cX4_mark 43 = .ok (.if_icmp .ge 62, 3) := dk_162 0 62 (dk_at dksX4_mark_1 21 rfl rfl)
theorem dX4_mark_46 : decode cX4_mark 46 = .ok (.aload_n 0, 1) := dk_42 (dk_at dksX4_mark_2 0 rfl rfl)
theorem dX4_mark_47 : decode cX4_mark 47 = .ok (.invokevirtual 256, 3) := dk_182 1 0 (dk_at dksX4_mark_2 1 rfl rfl)
theorem dX4_mark_50 : decode cX4_mark 50 = .ok (.aload_n 0, 1) := dk_42 (dk_at dksX4_mark_2 4 rfl rfl)
theorem dX4_mark_51 : decode cX4_mark 51 = .ok (.getfield 13, 3) := dk_180 0 13 (dk_at dksX4_mark_2 5 rfl rfl)
theorem dX4_mark_54 : decode cX4_mark 54 = .ok (.iload 5, 2) := dk_21 5 (dk_at dksX4_mark_2 8 rfl rfl)
theorem dX4_mark_56 : decode cX4_mark 56 = .ok (.iconst 1, 1) := dk_4 (dk_at dksX4_mark_2 10 rfl rfl)
theorem dX4_mark_57 : decode cX4_mark 57 = .ok (.iastore, 1) := dk_79 (dk_at dksX4_mark_2 11 rfl rfl)
theorem dX4_mark_58 : decode cX4_mark 58 = .ok (.aload_n 0, 1) := dk_42 (dk_at dksX4_mark_2 12 rfl rfl)
theorem dX4_mark_59 : decode cX4_mark 59 = .ok (.iload_n 1, 1) := dk_27 (dk_at dksX4_mark_2 13 rfl rfl)
theorem dX4_mark_60 : decode cX4_mark 60 = .ok (.invokevirtual 276, 3) := dk_182 1 20 (dk_at dksX4_mark_2 14 rfl rfl)
theorem dX4_mark_63 : decode cX4_mark 63 = .ok (.aload_n 0, 1) := dk_42 (dk_at dksX4_mark_2 17 rfl rfl)
theorem dX4_mark_64 : decode cX4_mark 64 = .ok (.getfield 146, 3) := dk_180 0 146 (dk_at dksX4_mark_2 18 rfl rfl)
theorem dX4_mark_67 : decode cX4_mark 67 = .ok (.iload 4, 2) := dk_21 4 (dk_at dksX4_mark_2 21 rfl rfl)
theorem dX4_mark_69 : decode cX4_mark 69 = .ok (.if_icmp .ge 8, 3) := dk_162 0 8 (dk_at dksX4_mark_3 0 rfl rfl)
theorem dX4_mark_72 : decode cX4_mark 72 = .ok (.iload 5, 2) := dk_21 5 (dk_at dksX4_mark_3 3 rfl rfl)
theorem dX4_mark_74 : decode cX4_mark 74 = .ok (.goto 4, 3) := dk_167 0 4 (dk_at dksX4_mark_3 5 rfl rfl)
theorem dX4_mark_77 : decode cX4_mark 77 = .ok (.iload_n 2, 1) := dk_28 (dk_at dksX4_mark_3 8 rfl rfl)
theorem dX4_mark_78 : decode cX4_mark 78 = .ok (.istore_n 2, 1) := dk_61 (dk_at dksX4_mark_3 9 rfl rfl)
theorem dX4_mark_79 : decode cX4_mark 79 = .ok (.aload_n 0, 1) := dk_42 (dk_at dksX4_mark_3 10 rfl rfl)
theorem dX4_mark_80 : decode cX4_mark 80 = .ok (.getfield 146, 3) := dk_180 0 146 (dk_at dksX4_mark_3 11 rfl rfl)
theorem dX4_mark_83 : decode cX4_mark 83 = .ok (.iload 4, 2) := dk_21 4 (dk_at dksX4_mark_3 14 rfl rfl)
theorem dX4_mark_85 : decode cX4_mark 85 = .ok (.if_icmp .ge 10, 3) := dk_162 0 10 (dk_at dksX4_mark_3 16 rfl rfl)
theorem dX4_mark_88 : decode cX4_mark 88 = .ok (.aload_n 0, 1) := dk_42 (dk_at dksX4_mark_3 19 rfl rfl)
theorem dX4_mark_89 : decode cX4_mark 89 = .ok (.getfield 146, 3) := dk_180 0 146 (dk_at dksX4_mark_3 20 rfl rfl)
theorem dX4_mark_92 : decode cX4_mark 92 = .ok (.goto 5, 3) := dk_167 0 5 (dk_at dksX4_mark_4 0 rfl rfl)
theorem dX4_mark_95 : decode cX4_mark 95 = .ok (.iload 4, 2) := dk_21 4 (dk_at dksX4_mark_4 3 rfl rfl)
theorem dX4_mark_97 : decode cX4_mark 97 = .ok (.istore 4, 2) := dk_54 4 (dk_at dksX4_mark_4 5 rfl rfl)
theorem dX4_mark_99 : decode cX4_mark 99 = .ok (.iinc 5 1, 3) := dk_132 5 1 (dk_at dksX4_mark_4 7 rfl rfl)
theorem dX4_mark_102 : decode cX4_mark 102 = .ok (.goto (-62), 3) := dk_167 255 194 (dk_at dksX4_mark_4 10 rfl rfl)
theorem dX4_mark_105 : decode cX4_mark 105 = .ok (.aload_n 0, 1) := dk_42 (dk_at dksX4_mark_4 13 rfl rfl)
theorem dX4_mark_106 : decode cX4_mark 106 = .ok (.invokevirtual 256, 3) := dk_182 1 0 (dk_at dksX4_mark_4 14 rfl rfl)
theorem dX4_mark_109 : decode cX4_mark 109 = .ok (.iload_n 2, 1) := dk_28 (dk_at dksX4_mark_4 17 rfl rfl)
theorem dX4_mark_110 : decode cX4_mark 110 = .ok (.ireturn, 1) := dk_172 (dk_at dksX4_mark_4 18 rfl rfl)
abbrev cX4_close : ByteArray := prog_21_method_67_code
def yX4_close : MethodName := ⟨RX4, "close", "(I)I"⟩
def dkwX4_close_4 : List UInt8 := [42, 2, 181, 0, 62, 42, 182, 1, 0, 28, 172]
abbrev dktX4_close_4 : List UInt8 := dkwX4_close_4 ++ []
def dkwX4_close_3 : List UInt8 := [61, 42, 180, 0, 157, 29, 162, 0, 10, 42, 180, 0, 157, 167, 0, 4, 29, 62, 132, 4, 1, 167, 255, 199]
abbrev dktX4_close_3 : List UInt8 := dkwX4_close_3 ++ dktX4_close_4
def dkwX4_close_2 : List UInt8 := [21, 4, 181, 0, 62, 42, 27, 182, 1, 20, 42, 180, 0, 157, 29, 162, 0, 8, 21, 4, 167, 0, 4, 28]
abbrev dktX4_close_2 : List UInt8 := dkwX4_close_2 ++ dktX4_close_3
def dkwX4_close_1 : List UInt8 := [182, 1, 20, 42, 180, 0, 157, 62, 3, 54, 4, 21, 4, 16, 6, 162, 0, 56, 42, 182, 1, 0, 42]
abbrev dktX4_close_1 : List UInt8 := dkwX4_close_1 ++ dktX4_close_2
def dkwX4_close_0 : List UInt8 := [42, 3, 181, 0, 102, 27, 184, 1, 26, 154, 0, 5, 2, 172, 16, 252, 61, 42, 182, 0, 250, 42, 27]
abbrev dktX4_close_0 : List UInt8 := dkwX4_close_0 ++ dktX4_close_1
theorem dksX4_close_0 : cX4_close.data.toList.drop 0 = dktX4_close_0 := by decide +kernel
theorem dksX4_close_1 : cX4_close.data.toList.drop 23 = dktX4_close_1 := dk_seg dksX4_close_0 23 rfl rfl
theorem dksX4_close_2 : cX4_close.data.toList.drop 46 = dktX4_close_2 := dk_seg dksX4_close_1 23 rfl rfl
theorem dksX4_close_3 : cX4_close.data.toList.drop 70 = dktX4_close_3 := dk_seg dksX4_close_2 24 rfl rfl
theorem dksX4_close_4 : cX4_close.data.toList.drop 94 = dktX4_close_4 := dk_seg dksX4_close_3 24 rfl rfl
theorem dX4_close_0 : decode cX4_close 0 = .ok (.aload_n 0, 1) := dk_42 (dk_at dksX4_close_0 0 rfl rfl)
theorem dX4_close_1 : decode cX4_close 1 = .ok (.iconst 0, 1) := dk_3 (dk_at dksX4_close_0 1 rfl rfl)
theorem dX4_close_2 : decode cX4_close 2 = .ok (.putfield 102, 3) := dk_181 0 102 (dk_at dksX4_close_0 2 rfl rfl)
theorem dX4_close_5 : decode cX4_close 5 = .ok (.iload_n 1, 1) := dk_27 (dk_at dksX4_close_0 5 rfl rfl)
theorem dX4_close_6 : decode cX4_close 6 = .ok (.invokestatic 282, 3) := dk_184 1 26 (dk_at dksX4_close_0 6 rfl rfl)
theorem dX4_close_9 : decode cX4_close 9 = .ok (.ifCond .ne 5, 3) := dk_154 0 5 (dk_at dksX4_close_0 9 rfl rfl)
theorem dX4_close_12 : decode cX4_close 12 = .ok (.iconst (-1), 1) := dk_2 (dk_at dksX4_close_0 12 rfl rfl)
theorem dX4_close_13 : decode cX4_close 13 = .ok (.ireturn, 1) := dk_172 (dk_at dksX4_close_0 13 rfl rfl)
theorem dX4_close_14 : decode cX4_close 14 = .ok (.bipush (-4), 2) := dk_16 252 (dk_at dksX4_close_0 14 rfl rfl)
theorem dX4_close_16 : decode cX4_close 16 = .ok (.istore_n 2, 1) := dk_61 (dk_at dksX4_close_0 16 rfl rfl)
theorem dX4_close_17 : decode cX4_close 17 = .ok (.aload_n 0, 1) := dk_42 (dk_at dksX4_close_0 17 rfl rfl)
theorem dX4_close_18 : decode cX4_close 18 = .ok (.invokevirtual 250, 3) := dk_182 0 250 (dk_at dksX4_close_0 18 rfl rfl)
theorem dX4_close_21 : decode cX4_close 21 = .ok (.aload_n 0, 1) := dk_42 (dk_at dksX4_close_0 21 rfl rfl)
theorem dX4_close_22 : decode cX4_close 22 = .ok (.iload_n 1, 1) := dk_27 (dk_at dksX4_close_0 22 rfl rfl)
theorem dX4_close_23 : decode cX4_close 23 = .ok (.invokevirtual 276, 3) := dk_182 1 20 (dk_at dksX4_close_1 0 rfl rfl)
theorem dX4_close_26 : decode cX4_close 26 = .ok (.aload_n 0, 1) := dk_42 (dk_at dksX4_close_1 3 rfl rfl)
theorem dX4_close_27 : decode cX4_close 27 = .ok (.getfield 157, 3) := dk_180 0 157 (dk_at dksX4_close_1 4 rfl rfl)
theorem dX4_close_30 : decode cX4_close 30 = .ok (.istore_n 3, 1) := dk_62 (dk_at dksX4_close_1 7 rfl rfl)
theorem dX4_close_31 : decode cX4_close 31 = .ok (.iconst 0, 1) := dk_3 (dk_at dksX4_close_1 8 rfl rfl)
theorem dX4_close_32 : decode cX4_close 32 = .ok (.istore 4, 2) := dk_54 4 (dk_at dksX4_close_1 9 rfl rfl)
theorem dX4_close_34 : decode cX4_close 34 = .ok (.iload 4, 2) := dk_21 4 (dk_at dksX4_close_1 11 rfl rfl)
theorem dX4_close_36 : decode cX4_close 36 = .ok (.bipush 6, 2) := dk_16 6 (dk_at dksX4_close_1 13 rfl rfl)
theorem dX4_close_38 : decode cX4_close 38 = .ok (.if_icmp .ge 56, 3) := dk_162 0 56 (dk_at dksX4_close_1 15 rfl rfl)
theorem dX4_close_41 : decode cX4_close 41 = .ok (.aload_n 0, 1) := dk_42 (dk_at dksX4_close_1 18 rfl rfl)
theorem dX4_close_42 : decode cX4_close 42 = .ok (.invokevirtual 256, 3) := dk_182 1 0 (dk_at dksX4_close_1 19 rfl rfl)
theorem dX4_close_45 : decode cX4_close 45 = .ok (.aload_n 0, 1) := dk_42 (dk_at dksX4_close_1 22 rfl rfl)
theorem dX4_close_46 : decode cX4_close 46 = .ok (.iload 4, 2) := dk_21 4 (dk_at dksX4_close_2 0 rfl rfl)
theorem dX4_close_48 : decode cX4_close 48 = .ok (.putfield 62, 3) := dk_181 0 62 (dk_at dksX4_close_2 2 rfl rfl)
theorem dX4_close_51 : decode cX4_close 51 = .ok (.aload_n 0, 1) := dk_42 (dk_at dksX4_close_2 5 rfl rfl)
theorem dX4_close_52 : decode cX4_close 52 = .ok (.iload_n 1, 1) := dk_27 (dk_at dksX4_close_2 6 rfl rfl)
theorem dX4_close_53 : decode cX4_close 53 = .ok (.invokevirtual 276, 3) := dk_182 1 20 (dk_at dksX4_close_2 7 rfl rfl)
theorem dX4_close_56 : decode cX4_close 56 = .ok (.aload_n 0, 1) := dk_42 (dk_at dksX4_close_2 10 rfl rfl)
theorem dX4_close_57 : decode cX4_close 57 = .ok (.getfield 157, 3) := dk_180 0 157 (dk_at dksX4_close_2 11 rfl rfl)
theorem dX4_close_60 : decode cX4_close 60 = .ok (.iload_n 3, 1) := dk_29 (dk_at dksX4_close_2 14 rfl rfl)
theorem dX4_close_61 : decode cX4_close 61 = .ok (.if_icmp .ge 8, 3) := dk_162 0 8 (dk_at dksX4_close_2 15 rfl rfl)
theorem dX4_close_64 : decode cX4_close 64 = .ok (.iload 4, 2) := dk_21 4 (dk_at dksX4_close_2 18 rfl rfl)
theorem dX4_close_66 : decode cX4_close 66 = .ok (.goto 4, 3) := dk_167 0 4 (dk_at dksX4_close_2 20 rfl rfl)
theorem dX4_close_69 : decode cX4_close 69 = .ok (.iload_n 2, 1) := dk_28 (dk_at dksX4_close_2 23 rfl rfl)
theorem dX4_close_70 : decode cX4_close 70 = .ok (.istore_n 2, 1) := dk_61 (dk_at dksX4_close_3 0 rfl rfl)
theorem dX4_close_71 : decode cX4_close 71 = .ok (.aload_n 0, 1) := dk_42 (dk_at dksX4_close_3 1 rfl rfl)
theorem dX4_close_72 : decode cX4_close 72 = .ok (.getfield 157, 3) := dk_180 0 157 (dk_at dksX4_close_3 2 rfl rfl)
theorem dX4_close_75 : decode cX4_close 75 = .ok (.iload_n 3, 1) := dk_29 (dk_at dksX4_close_3 5 rfl rfl)
theorem dX4_close_76 : decode cX4_close 76 = .ok (.if_icmp .ge 10, 3) := dk_162 0 10 (dk_at dksX4_close_3 6 rfl rfl)
theorem dX4_close_79 : decode cX4_close 79 = .ok (.aload_n 0, 1) := dk_42 (dk_at dksX4_close_3 9 rfl rfl)
theorem dX4_close_80 : decode cX4_close 80 = .ok (.getfield 157, 3) := dk_180 0 157 (dk_at dksX4_close_3 10 rfl rfl)
theorem dX4_close_83 : decode cX4_close 83 = .ok (.goto 4, 3) := dk_167 0 4 (dk_at dksX4_close_3 13 rfl rfl)
theorem dX4_close_86 : decode cX4_close 86 = .ok (.iload_n 3, 1) := dk_29 (dk_at dksX4_close_3 16 rfl rfl)
theorem dX4_close_87 : decode cX4_close 87 = .ok (.istore_n 3, 1) := dk_62 (dk_at dksX4_close_3 17 rfl rfl)
theorem dX4_close_88 : decode cX4_close 88 = .ok (.iinc 4 1, 3) := dk_132 4 1 (dk_at dksX4_close_3 18 rfl rfl)
theorem dX4_close_91 : decode cX4_close 91 = .ok (.goto (-57), 3) := dk_167 255 199 (dk_at dksX4_close_3 21 rfl rfl)
theorem dX4_close_94 : decode cX4_close 94 = .ok (.aload_n 0, 1) := dk_42 (dk_at dksX4_close_4 0 rfl rfl)
theorem dX4_close_95 : decode cX4_close 95 = .ok (.iconst (-1), 1) := dk_2 (dk_at dksX4_close_4 1 rfl rfl)
theorem dX4_close_96 : decode cX4_close 96 = .ok (.putfield 62, 3) := dk_181 0 62 (dk_at dksX4_close_4 2 rfl rfl)
theorem dX4_close_99 : decode cX4_close 99 = .ok (.aload_n 0, 1) := dk_42 (dk_at dksX4_close_4 5 rfl rfl)
theorem dX4_close_100 : decode cX4_close 100 = .ok (.invokevirtual 256, 3) := dk_182 1 0 (dk_at dksX4_close_4 6 rfl rfl)
theorem dX4_close_103 : decode cX4_close 103 = .ok (.iload_n 2, 1) := dk_28 (dk_at dksX4_close_4 9 rfl rfl)
theorem dX4_close_104 : decode cX4_close 104 = .ok (.ireturn, 1) := dk_172 (dk_at dksX4_close_4 10 rfl rfl)
abbrev cX4_driver : ByteArray := prog_21_method_68_code
def yX4_driver : MethodName := ⟨RX4, "driver", "(I)I"⟩
def dkwX4_driver_3 : List UInt8 := [28, 172]
abbrev dktX4_driver_3 : List UInt8 := dkwX4_driver_3 ++ []
def dkwX4_driver_2 : List UInt8 := [180, 0, 56, 28, 46, 162, 0, 7, 29, 167, 0, 4, 28, 61, 132, 3, 1, 167, 255, 220, 42, 182, 1, 0]
abbrev dktX4_driver_2 : List UInt8 := dkwX4_driver_2 ++ dktX4_driver_3
def dkwX4_driver_1 : List UInt8 := [16, 252, 61, 3, 62, 29, 42, 180, 0, 112, 162, 0, 34, 28, 155, 0, 18, 42, 180, 0, 56, 29, 46, 42]
abbrev dktX4_driver_1 : List UInt8 := dkwX4_driver_1 ++ dktX4_driver_2
def dkwX4_driver_0 : List UInt8 := [42, 3, 181, 0, 102, 27, 184, 1, 26, 154, 0, 5, 2, 172, 42, 182, 0, 250, 42, 27, 182, 1, 20]
abbrev dktX4_driver_0 : List UInt8 := dkwX4_driver_0 ++ dktX4_driver_1
theorem dksX4_driver_0 : cX4_driver.data.toList.drop 0 = dktX4_driver_0 := by decide +kernel
theorem dksX4_driver_1 : cX4_driver.data.toList.drop 23 = dktX4_driver_1 := dk_seg dksX4_driver_0 23 rfl rfl
theorem dksX4_driver_2 : cX4_driver.data.toList.drop 47 = dktX4_driver_2 := dk_seg dksX4_driver_1 24 rfl rfl
theorem dksX4_driver_3 : cX4_driver.data.toList.drop 71 = dktX4_driver_3 := dk_seg dksX4_driver_2 24 rfl rfl
theorem dX4_driver_0 : decode cX4_driver 0 = .ok (.aload_n 0, 1) := dk_42 (dk_at dksX4_driver_0 0 rfl rfl)
theorem dX4_driver_1 : decode cX4_driver 1 = .ok (.iconst 0, 1) := dk_3 (dk_at dksX4_driver_0 1 rfl rfl)
theorem dX4_driver_2 : decode cX4_driver 2 = .ok (.putfield 102, 3) := dk_181 0 102 (dk_at dksX4_driver_0 2 rfl rfl)
theorem dX4_driver_5 : decode cX4_driver 5 = .ok (.iload_n 1, 1) := dk_27 (dk_at dksX4_driver_0 5 rfl rfl)
theorem dX4_driver_6 : decode cX4_driver 6 = .ok (.invokestatic 282, 3) := dk_184 1 26 (dk_at dksX4_driver_0 6 rfl rfl)
theorem dX4_driver_9 : decode cX4_driver 9 = .ok (.ifCond .ne 5, 3) := dk_154 0 5 (dk_at dksX4_driver_0 9 rfl rfl)
theorem dX4_driver_12 : decode cX4_driver 12 = .ok (.iconst (-1), 1) := dk_2 (dk_at dksX4_driver_0 12 rfl rfl)
theorem dX4_driver_13 : decode cX4_driver 13 = .ok (.ireturn, 1) := dk_172 (dk_at dksX4_driver_0 13 rfl rfl)
theorem dX4_driver_14 : decode cX4_driver 14 = .ok (.aload_n 0, 1) := dk_42 (dk_at dksX4_driver_0 14 rfl rfl)
theorem dX4_driver_15 : decode cX4_driver 15 = .ok (.invokevirtual 250, 3) := dk_182 0 250 (dk_at dksX4_driver_0 15 rfl rfl)
theorem dX4_driver_18 : decode cX4_driver 18 = .ok (.aload_n 0, 1) := dk_42 (dk_at dksX4_driver_0 18 rfl rfl)
theorem dX4_driver_19 : decode cX4_driver 19 = .ok (.iload_n 1, 1) := dk_27 (dk_at dksX4_driver_0 19 rfl rfl)
theorem dX4_driver_20 : decode cX4_driver 20 = .ok (.invokevirtual 276, 3) := dk_182 1 20 (dk_at dksX4_driver_0 20 rfl rfl)
theorem dX4_driver_23 : decode cX4_driver 23 = .ok (.bipush (-4), 2) := dk_16 252 (dk_at dksX4_driver_1 0 rfl rfl)
theorem dX4_driver_25 : decode cX4_driver 25 = .ok (.istore_n 2, 1) := dk_61 (dk_at dksX4_driver_1 2 rfl rfl)
theorem dX4_driver_26 : decode cX4_driver 26 = .ok (.iconst 0, 1) := dk_3 (dk_at dksX4_driver_1 3 rfl rfl)
theorem dX4_driver_27 : decode cX4_driver 27 = .ok (.istore_n 3, 1) := dk_62 (dk_at dksX4_driver_1 4 rfl rfl)
theorem dX4_driver_28 : decode cX4_driver 28 = .ok (.iload_n 3, 1) := dk_29 (dk_at dksX4_driver_1 5 rfl rfl)
theorem dX4_driver_29 : decode cX4_driver 29 = .ok (.aload_n 0, 1) := dk_42 (dk_at dksX4_driver_1 6 rfl rfl)
theorem dX4_driver_30 : decode cX4_driver 30 = .ok (.getfield 112, 3) := dk_180 0 112 (dk_at dksX4_driver_1 7 rfl rfl)
theorem dX4_driver_33 : decode cX4_driver 33 = .ok (.if_icmp .ge 34, 3) := dk_162 0 34 (dk_at dksX4_driver_1 10 rfl rfl)
theorem dX4_driver_36 : decode cX4_driver 36 = .ok (.iload_n 2, 1) := dk_28 (dk_at dksX4_driver_1 13 rfl rfl)
theorem dX4_driver_37 : decode cX4_driver 37 = .ok (.ifCond .lt 18, 3) := dk_155 0 18 (dk_at dksX4_driver_1 14 rfl rfl)
theorem dX4_driver_40 : decode cX4_driver 40 = .ok (.aload_n 0, 1) := dk_42 (dk_at dksX4_driver_1 17 rfl rfl)
theorem dX4_driver_41 : decode cX4_driver 41 = .ok (.getfield 56, 3) := dk_180 0 56 (dk_at dksX4_driver_1 18 rfl rfl)
theorem dX4_driver_44 : decode cX4_driver 44 = .ok (.iload_n 3, 1) := dk_29 (dk_at dksX4_driver_1 21 rfl rfl)
theorem dX4_driver_45 : decode cX4_driver 45 = .ok (.iaload, 1) := dk_46 (dk_at dksX4_driver_1 22 rfl rfl)
theorem dX4_driver_46 : decode cX4_driver 46 = .ok (.aload_n 0, 1) := dk_42 (dk_at dksX4_driver_1 23 rfl rfl)
theorem dX4_driver_47 : decode cX4_driver 47 = .ok (.getfield 56, 3) := dk_180 0 56 (dk_at dksX4_driver_2 0 rfl rfl)
theorem dX4_driver_50 : decode cX4_driver 50 = .ok (.iload_n 2, 1) := dk_28 (dk_at dksX4_driver_2 3 rfl rfl)
theorem dX4_driver_51 : decode cX4_driver 51 = .ok (.iaload, 1) := dk_46 (dk_at dksX4_driver_2 4 rfl rfl)
theorem dX4_driver_52 : decode cX4_driver 52 = .ok (.if_icmp .ge 7, 3) := dk_162 0 7 (dk_at dksX4_driver_2 5 rfl rfl)
theorem dX4_driver_55 : decode cX4_driver 55 = .ok (.iload_n 3, 1) := dk_29 (dk_at dksX4_driver_2 8 rfl rfl)
theorem dX4_driver_56 : decode cX4_driver 56 = .ok (.goto 4, 3) := dk_167 0 4 (dk_at dksX4_driver_2 9 rfl rfl)
theorem dX4_driver_59 : decode cX4_driver 59 = .ok (.iload_n 2, 1) := dk_28 (dk_at dksX4_driver_2 12 rfl rfl)
theorem dX4_driver_60 : decode cX4_driver 60 = .ok (.istore_n 2, 1) := dk_61 (dk_at dksX4_driver_2 13 rfl rfl)
theorem dX4_driver_61 : decode cX4_driver 61 = .ok (.iinc 3 1, 3) := dk_132 3 1 (dk_at dksX4_driver_2 14 rfl rfl)
theorem dX4_driver_64 : decode cX4_driver 64 = .ok (.goto (-36), 3) := dk_167 255 220 (dk_at dksX4_driver_2 17 rfl rfl)
theorem dX4_driver_67 : decode cX4_driver 67 = .ok (.aload_n 0, 1) := dk_42 (dk_at dksX4_driver_2 20 rfl rfl)
theorem dX4_driver_68 : decode cX4_driver 68 = .ok (.invokevirtual 256, 3) := dk_182 1 0 (dk_at dksX4_driver_2 21 rfl rfl)
theorem dX4_driver_71 : decode cX4_driver 71 = .ok (.iload_n 2, 1) := dk_28 (dk_at dksX4_driver_3 0 rfl rfl)
theorem dX4_driver_72 : decode cX4_driver 72 = .ok (.ireturn, 1) := dk_172 (dk_at dksX4_driver_3 1 rfl rfl)
abbrev cX4_full : ByteArray := prog_21_method_70_code
def yX4_full : MethodName := ⟨RX4, "full", "()I"⟩
def dkwX4_full_2 : List UInt8 := [42, 182, 1, 0, 27, 172]
abbrev dktX4_full_2 : List UInt8 := dkwX4_full_2 ++ []
def dkwX4_full_1 : List UInt8 := [42, 182, 1, 35, 153, 0, 8, 16, 252, 167, 0, 4, 28, 60, 42, 182, 0, 193, 132, 2, 1, 167, 255, 225]
abbrev dktX4_full_1 : List UInt8 := dkwX4_full_1 ++ dktX4_full_2
def dkwX4_full_0 : List UInt8 := [42, 3, 181, 0, 102, 42, 182, 0, 250, 16, 252, 60, 3, 61, 28, 16, 60, 163, 0, 31, 27, 156, 0, 27]
abbrev dktX4_full_0 : List UInt8 := dkwX4_full_0 ++ dktX4_full_1
theorem dksX4_full_0 : cX4_full.data.toList.drop 0 = dktX4_full_0 := by decide +kernel
theorem dksX4_full_1 : cX4_full.data.toList.drop 24 = dktX4_full_1 := dk_seg dksX4_full_0 24 rfl rfl
theorem dksX4_full_2 : cX4_full.data.toList.drop 48 = dktX4_full_2 := dk_seg dksX4_full_1 24 rfl rfl
theorem dX4_full_0 : decode cX4_full 0 = .ok (.aload_n 0, 1) := dk_42 (dk_at dksX4_full_0 0 rfl rfl)
theorem dX4_full_1 : decode cX4_full 1 = .ok (.iconst 0, 1) := dk_3 (dk_at dksX4_full_0 1 rfl rfl)
theorem dX4_full_2 : decode cX4_full 2 = .ok (.putfield 102, 3) := dk_181 0 102 (dk_at dksX4_full_0 2 rfl rfl)
theorem dX4_full_5 : decode cX4_full 5 = .ok (.aload_n 0, 1) := dk_42 (dk_at dksX4_full_0 5 rfl rfl)
theorem dX4_full_6 : decode cX4_full 6 = .ok (.invokevirtual 250, 3) := dk_182 0 250 (dk_at dksX4_full_0 6 rfl rfl)
theorem dX4_full_9 : decode cX4_full 9 = .ok (.bipush (-4), 2) := dk_16 252 (dk_at dksX4_full_0 9 rfl rfl)
theorem dX4_full_11 : decode cX4_full 11 = .ok (.istore_n 1, 1) := dk_60 (dk_at dksX4_full_0 11 rfl rfl)
theorem dX4_full_12 : decode cX4_full 12 = .ok (.iconst 0, 1) := dk_3 (dk_at dksX4_full_0 12 rfl rfl)
theorem dX4_full_13 : decode cX4_full 13 = .ok (.istore_n 2, 1) := dk_61 (dk_at dksX4_full_0 13 rfl rfl)
theorem dX4_full_14 : decode cX4_full 14 = .ok (.iload_n 2, 1) := dk_28 (dk_at dksX4_full_0 14 rfl rfl)
theorem dX4_full_15 : decode cX4_full 15 = .ok (.bipush 60, 2) := dk_16 60 (dk_at dksX4_full_0 15 rfl rfl)
theorem dX4_full_17 : decode cX4_full 17 = .ok (.if_icmp .gt 31, 3) := dk_163 0 31 (dk_at dksX4_full_0 17 rfl rfl)
theorem dX4_full_20 : decode cX4_full 20 = .ok (.iload_n 1, 1) := dk_27 (dk_at dksX4_full_0 20 rfl rfl)
theorem dX4_full_21 : decode cX4_full 21 = .ok (.ifCond .ge 27, 3) := dk_156 0 27 (dk_at dksX4_full_0 21 rfl rfl)
theorem dX4_full_24 : decode cX4_full 24 = .ok (.aload_n 0, 1) := dk_42 (dk_at dksX4_full_1 0 rfl rfl)
theorem dX4_full_25 : decode cX4_full 25 = .ok (.invokevirtual 291, 3) := dk_182 1 35 (dk_at dksX4_full_1 1 rfl rfl)
theorem dX4_full_28 : decode cX4_full 28 = .ok (.ifCond .eq 8, 3) := dk_153 0 8 (dk_at dksX4_full_1 4 rfl rfl)
theorem dX4_full_31 : decode cX4_full 31 = .ok (.bipush (-4), 2) := dk_16 252 (dk_at dksX4_full_1 7 rfl rfl)
theorem dX4_full_33 : decode cX4_full 33 = .ok (.goto 4, 3) := dk_167 0 4 (dk_at dksX4_full_1 9 rfl rfl)
theorem dX4_full_36 : decode cX4_full 36 = .ok (.iload_n 2, 1) := dk_28 (dk_at dksX4_full_1 12 rfl rfl)
theorem dX4_full_37 : decode cX4_full 37 = .ok (.istore_n 1, 1) := dk_60 (dk_at dksX4_full_1 13 rfl rfl)
theorem dX4_full_38 : decode cX4_full 38 = .ok (.aload_n 0, 1) := dk_42 (dk_at dksX4_full_1 14 rfl rfl)
theorem dX4_full_39 : decode cX4_full 39 = .ok (.invokevirtual 193, 3) := dk_182 0 193 (dk_at dksX4_full_1 15 rfl rfl)
theorem dX4_full_42 : decode cX4_full 42 = .ok (.iinc 2 1, 3) := dk_132 2 1 (dk_at dksX4_full_1 18 rfl rfl)
theorem dX4_full_45 : decode cX4_full 45 = .ok (.goto (-31), 3) := dk_167 255 225 (dk_at dksX4_full_1 21 rfl rfl)
theorem dX4_full_48 : decode cX4_full 48 = .ok (.aload_n 0, 1) := dk_42 (dk_at dksX4_full_2 0 rfl rfl)
theorem dX4_full_49 : decode cX4_full 49 = .ok (.invokevirtual 256, 3) := dk_182 1 0 (dk_at dksX4_full_2 1 rfl rfl)
theorem dX4_full_52 : decode cX4_full 52 = .ok (.iload_n 1, 1) := dk_27 (dk_at dksX4_full_2 4 rfl rfl)
theorem dX4_full_53 : decode cX4_full 53 = .ok (.ireturn, 1) := dk_172 (dk_at dksX4_full_2 5 rfl rfl)
abbrev cX4_isSomeEmpty : ByteArray := prog_21_method_69_code
def yX4_isSomeEmpty : MethodName := ⟨RX4, "isSomeEmpty", "()Z"⟩
def dkwX4_isSomeEmpty_2 : List UInt8 := [27, 172]
abbrev dktX4_isSomeEmpty_2 : List UInt8 := dkwX4_isSomeEmpty_2 ++ []
def dkwX4_isSomeEmpty_1 : List UInt8 := [159, 0, 16, 42, 180, 0, 20, 28, 46, 154, 0, 7, 4, 167, 0, 4, 3, 60, 132, 2, 1, 167, 255, 215]
abbrev dktX4_isSomeEmpty_1 : List UInt8 := dkwX4_isSomeEmpty_1 ++ dktX4_isSomeEmpty_2
def dkwX4_isSomeEmpty_0 : List UInt8 := [3, 60, 3, 61, 28, 42, 180, 0, 105, 162, 0, 39, 27, 154, 0, 23, 42, 180, 0, 23, 28, 46, 16, 20]
abbrev dktX4_isSomeEmpty_0 : List UInt8 := dkwX4_isSomeEmpty_0 ++ dktX4_isSomeEmpty_1
theorem dksX4_isSomeEmpty_0 : cX4_isSomeEmpty.data.toList.drop 0 = dktX4_isSomeEmpty_0 := by decide +kernel
theorem dksX4_isSomeEmpty_1 : cX4_isSomeEmpty.data.toList.drop 24 = dktX4_isSomeEmpty_1 := dk_seg dksX4_isSomeEmpty_0 24 rfl rfl
theorem dksX4_isSomeEmpty_2 : cX4_isSomeEmpty.data.toList.drop 48 = dktX4_isSomeEmpty_2 := dk_seg dksX4_isSomeEmpty_1 24 rfl rfl
theorem dX4_isSomeEmpty_0 : decode cX4_isSomeEmpty 0 = .ok (.iconst 0, 1) := dk_3 (dk_at dksX4_isSomeEmpty_0 0 rfl rfl)
theorem dX4_isSomeEmpty_1 : decode cX4_isSomeEmpty 1 = .ok (.istore_n 1, 1) := dk_60 (dk_at dksX4_isSomeEmpty_0 1 rfl rfl)
theorem dX4_isSomeEmpty_2 : decode cX4_isSomeEmpty 2 = .ok (.iconst 0, 1) := dk_3 (dk_at dksX4_isSomeEmpty_0 2 rfl rfl)
theorem dX4_isSomeEmpty_3 : decode cX4_isSomeEmpty 3 = .ok (.istore_n 2, 1) := dk_61 (dk_at dksX4_isSomeEmpty_0 3 rfl rfl)
theorem dX4_isSomeEmpty_4 : decode cX4_isSomeEmpty 4 = .ok (.iload_n 2, 1) := dk_28 (dk_at dksX4_isSomeEmpty_0 4 rfl rfl)
theorem dX4_isSomeEmpty_5 : decode cX4_isSomeEmpty 5 = .ok (.aload_n 0, 1) := dk_42 (dk_at dksX4_isSomeEmpty_0 5 rfl rfl)
theorem dX4_isSomeEmpty_6 : decode cX4_isSomeEmpty 6 = .ok (.getfield 105, 3) := dk_180 0 105 (dk_at dksX4_isSomeEmpty_0 6 rfl rfl)
theorem dX4_isSomeEmpty_9 : decode cX4_isSomeEmpty 9 = .ok (.if_icmp .ge 39, 3) := dk_162 0 39 (dk_at dksX4_isSomeEmpty_0 9 rfl rfl)
theorem dX4_isSomeEmpty_12 : decode cX4_isSomeEmpty 12 = .ok (.iload_n 1, 1) := dk_27 (dk_at dksX4_isSomeEmpty_0 12 rfl rfl)
theorem dX4_isSomeEmpty_13 : decode cX4_isSomeEmpty 13 = .ok (.ifCond .ne 23, 3) := dk_154 0 23 (dk_at dksX4_isSomeEmpty_0 13 rfl rfl)
theorem dX4_isSomeEmpty_16 : decode cX4_isSomeEmpty 16 = .ok (.aload_n 0, 1) := dk_42 (dk_at dksX4_isSomeEmpty_0 16 rfl rfl)
theorem dX4_isSomeEmpty_17 : decode cX4_isSomeEmpty 17 = .ok (.getfield 23, 3) := dk_180 0 23 (dk_at dksX4_isSomeEmpty_0 17 rfl rfl)
theorem dX4_isSomeEmpty_20 : decode cX4_isSomeEmpty 20 = .ok (.iload_n 2, 1) := dk_28 (dk_at dksX4_isSomeEmpty_0 20 rfl rfl)
theorem dX4_isSomeEmpty_21 : decode cX4_isSomeEmpty 21 = .ok (.iaload, 1) := dk_46 (dk_at dksX4_isSomeEmpty_0 21 rfl rfl)
theorem dX4_isSomeEmpty_22 : decode cX4_isSomeEmpty 22 = .ok (.bipush 20, 2) := dk_16 20 (dk_at dksX4_isSomeEmpty_0 22 rfl rfl)
theorem dX4_isSomeEmpty_24 : decode cX4_isSomeEmpty 24 = .ok (.if_icmp .eq 16, 3) := dk_159 0 16 (dk_at dksX4_isSomeEmpty_1 0 rfl rfl)
theorem dX4_isSomeEmpty_27 : decode cX4_isSomeEmpty 27 = .ok (.aload_n 0, 1) := dk_42 (dk_at dksX4_isSomeEmpty_1 3 rfl rfl)
theorem dX4_isSomeEmpty_28 : decode cX4_isSomeEmpty 28 = .ok (.getfield 20, 3) := dk_180 0 20 (dk_at dksX4_isSomeEmpty_1 4 rfl rfl)
theorem dX4_isSomeEmpty_31 : decode cX4_isSomeEmpty 31 = .ok (.iload_n 2, 1) := dk_28 (dk_at dksX4_isSomeEmpty_1 7 rfl rfl)
theorem dX4_isSomeEmpty_32 : decode cX4_isSomeEmpty 32 = .ok (.iaload, 1) := dk_46 (dk_at dksX4_isSomeEmpty_1 8 rfl rfl)
theorem dX4_isSomeEmpty_33 : decode cX4_isSomeEmpty 33 = .ok (.ifCond .ne 7, 3) := dk_154 0 7 (dk_at dksX4_isSomeEmpty_1 9 rfl rfl)
theorem dX4_isSomeEmpty_36 : decode cX4_isSomeEmpty 36 = .ok (.iconst 1, 1) := dk_4 (dk_at dksX4_isSomeEmpty_1 12 rfl rfl)
theorem dX4_isSomeEmpty_37 : decode cX4_isSomeEmpty 37 = .ok (.goto 4, 3) := dk_167 0 4 (dk_at dksX4_isSomeEmpty_1 13 rfl rfl)
theorem dX4_isSomeEmpty_40 : decode cX4_isSomeEmpty 40 = .ok (.iconst 0, 1) := dk_3 (dk_at dksX4_isSomeEmpty_1 16 rfl rfl)
theorem dX4_isSomeEmpty_41 : decode cX4_isSomeEmpty 41 = .ok (.istore_n 1, 1) := dk_60 (dk_at dksX4_isSomeEmpty_1 17 rfl rfl)
theorem dX4_isSomeEmpty_42 : decode cX4_isSomeEmpty 42 = .ok (.iinc 2 1, 3) := dk_132 2 1 (dk_at dksX4_isSomeEmpty_1 18 rfl rfl)
theorem dX4_isSomeEmpty_45 : decode cX4_isSomeEmpty 45 = .ok (.goto (-41), 3) := dk_167 255 215 (dk_at dksX4_isSomeEmpty_1 21 rfl rfl)
theorem dX4_isSomeEmpty_48 : decode cX4_isSomeEmpty 48 = .ok (.iload_n 1, 1) := dk_27 (dk_at dksX4_isSomeEmpty_2 0 rfl rfl)
theorem dX4_isSomeEmpty_49 : decode cX4_isSomeEmpty 49 = .ok (.ireturn, 1) := dk_172 (dk_at dksX4_isSomeEmpty_2 1 rfl rfl)
abbrev cX4_seeded : ByteArray := prog_21_method_72_code
def yX4_seeded : MethodName := ⟨RX4, "seeded", "(III)I"⟩
def dkwX4_seeded_5 : List UInt8 := [180, 0, 146, 167, 0, 7, 42, 180, 0, 157, 172]
abbrev dktX4_seeded_5 : List UInt8 := dkwX4_seeded_5 ++ []
def dkwX4_seeded_4 : List UInt8 := [167, 255, 231, 42, 182, 0, 193, 132, 4, 1, 167, 255, 212, 42, 182, 1, 0, 29, 154, 0, 10, 42]
abbrev dktX4_seeded_4 : List UInt8 := dkwX4_seeded_4 ++ dktX4_seeded_5
def dkwX4_seeded_3 : List UInt8 := [42, 180, 0, 112, 162, 0, 22, 42, 180, 0, 47, 21, 5, 42, 16, 6, 182, 1, 47, 79, 132, 5, 1]
abbrev dktX4_seeded_3 : List UInt8 := dkwX4_seeded_3 ++ dktX4_seeded_4
def dkwX4_seeded_2 : List UInt8 := [42, 3, 181, 0, 146, 42, 3, 181, 0, 157, 3, 54, 4, 21, 4, 27, 162, 0, 44, 3, 54, 5, 21, 5]
abbrev dktX4_seeded_2 : List UInt8 := dkwX4_seeded_2 ++ dktX4_seeded_3
def dkwX4_seeded_1 : List UInt8 := [154, 0, 5, 2, 172, 42, 180, 0, 112, 154, 0, 6, 16, 253, 172, 42, 182, 0, 250, 42, 28, 181, 1, 39]
abbrev dktX4_seeded_1 : List UInt8 := dkwX4_seeded_1 ++ dktX4_seeded_2
def dkwX4_seeded_0 : List UInt8 := [42, 3, 181, 0, 102, 27, 133, 10, 20, 1, 45, 184, 0, 108, 153, 0, 13, 29, 133, 9, 10, 184, 0, 108]
abbrev dktX4_seeded_0 : List UInt8 := dkwX4_seeded_0 ++ dktX4_seeded_1
theorem dksX4_seeded_0 : cX4_seeded.data.toList.drop 0 = dktX4_seeded_0 := by decide +kernel
theorem dksX4_seeded_1 : cX4_seeded.data.toList.drop 24 = dktX4_seeded_1 := dk_seg dksX4_seeded_0 24 rfl rfl
theorem dksX4_seeded_2 : cX4_seeded.data.toList.drop 48 = dktX4_seeded_2 := dk_seg dksX4_seeded_1 24 rfl rfl
theorem dksX4_seeded_3 : cX4_seeded.data.toList.drop 72 = dktX4_seeded_3 := dk_seg dksX4_seeded_2 24 rfl rfl
theorem dksX4_seeded_4 : cX4_seeded.data.toList.drop 95 = dktX4_seeded_4 := dk_seg dksX4_seeded_3 23 rfl rfl
theorem dksX4_seeded_5 : cX4_seeded.data.toList.drop 117 = dktX4_seeded_5 := dk_seg dksX4_seeded_4 22 rfl rfl
theorem dX4_seeded_0 : decode cX4_seeded 0 = .ok (.aload_n 0, 1) := dk_42 (dk_at dksX4_seeded_0 0 rfl rfl)
theorem dX4_seeded_1 : decode cX4_seeded 1 = .ok (.iconst 0, 1) := dk_3 (dk_at dksX4_seeded_0 1 rfl rfl)
theorem dX4_seeded_2 : decode cX4_seeded 2 = .ok (.putfield 102, 3) := dk_181 0 102 (dk_at dksX4_seeded_0 2 rfl rfl)
theorem dX4_seeded_5 : decode cX4_seeded 5 = .ok (.iload_n 1, 1) := dk_27 (dk_at dksX4_seeded_0 5 rfl rfl)
theorem dX4_seeded_6 : decode cX4_seeded 6 = .ok (.i2l, 1) := dk_133 (dk_at dksX4_seeded_0 6 rfl rfl)
theorem dX4_seeded_7 : decode cX4_seeded 7 = .ok (.lconst 1, 1) := dk_10 (dk_at dksX4_seeded_0 7 rfl rfl)
theorem dX4_seeded_8 : decode cX4_seeded 8 = .ok (.ldc2_w 301, 3) := dk_20 1 45 (dk_at dksX4_seeded_0 8 rfl rfl)
theorem dX4_seeded_11 : decode cX4_seeded 11 = .ok (.invokestatic 108, 3) := dk_184 0 108 (dk_at dksX4_seeded_0 11 rfl rfl)
theorem dX4_seeded_14 : decode cX4_seeded 14 = .ok (.ifCond .eq 13, 3) := dk_153 0 13 (dk_at dksX4_seeded_0 14 rfl rfl)
theorem dX4_seeded_17 : decode cX4_seeded 17 = .ok (.iload_n 3, 1) := dk_29 (dk_at dksX4_seeded_0 17 rfl rfl)
theorem dX4_seeded_18 : decode cX4_seeded 18 = .ok (.i2l, 1) := dk_133 (dk_at dksX4_seeded_0 18 rfl rfl)
theorem dX4_seeded_19 : decode cX4_seeded 19 = .ok (.lconst 0, 1) := dk_9 (dk_at dksX4_seeded_0 19 rfl rfl)
theorem dX4_seeded_20 : decode cX4_seeded 20 = .ok (.lconst 1, 1) := dk_10 (dk_at dksX4_seeded_0 20 rfl rfl)
theorem dX4_seeded_21 : decode cX4_seeded 21 = .ok (.invokestatic 108, 3) := dk_184 0 108 (dk_at dksX4_seeded_0 21 rfl rfl)
theorem dX4_seeded_24 : decode cX4_seeded 24 = .ok (.ifCond .ne 5, 3) := dk_154 0 5 (dk_at dksX4_seeded_1 0 rfl rfl)
theorem dX4_seeded_27 : decode cX4_seeded 27 = .ok (.iconst (-1), 1) := dk_2 (dk_at dksX4_seeded_1 3 rfl rfl)
theorem dX4_seeded_28 : decode cX4_seeded 28 = .ok (.ireturn, 1) := dk_172 (dk_at dksX4_seeded_1 4 rfl rfl)
theorem dX4_seeded_29 : decode cX4_seeded 29 = .ok (.aload_n 0, 1) := dk_42 (dk_at dksX4_seeded_1 5 rfl rfl)
theorem dX4_seeded_30 : decode cX4_seeded 30 = .ok (.getfield 112, 3) := dk_180 0 112 (dk_at dksX4_seeded_1 6 rfl rfl)
theorem dX4_seeded_33 : decode cX4_seeded 33 = .ok (.ifCond .ne 6, 3) := dk_154 0 6 (dk_at dksX4_seeded_1 9 rfl rfl)
theorem dX4_seeded_36 : decode cX4_seeded 36 = .ok (.bipush (-3), 2) := dk_16 253 (dk_at dksX4_seeded_1 12 rfl rfl)
theorem dX4_seeded_38 : decode cX4_seeded 38 = .ok (.ireturn, 1) := dk_172 (dk_at dksX4_seeded_1 14 rfl rfl)
theorem dX4_seeded_39 : decode cX4_seeded 39 = .ok (.aload_n 0, 1) := dk_42 (dk_at dksX4_seeded_1 15 rfl rfl)
theorem dX4_seeded_40 : decode cX4_seeded 40 = .ok (.invokevirtual 250, 3) := dk_182 0 250 (dk_at dksX4_seeded_1 16 rfl rfl)
theorem dX4_seeded_43 : decode cX4_seeded 43 = .ok (.aload_n 0, 1) := dk_42 (dk_at dksX4_seeded_1 19 rfl rfl)
theorem dX4_seeded_44 : decode cX4_seeded 44 = .ok (.iload_n 2, 1) := dk_28 (dk_at dksX4_seeded_1 20 rfl rfl)
theorem dX4_seeded_45 : decode cX4_seeded 45 = .ok (.putfield 295, 3) := dk_181 1 39 (dk_at dksX4_seeded_1 21 rfl rfl)
theorem dX4_seeded_48 : decode cX4_seeded 48 = .ok (.aload_n 0, 1) := dk_42 (dk_at dksX4_seeded_2 0 rfl rfl)
theorem dX4_seeded_49 : decode cX4_seeded 49 = .ok (.iconst 0, 1) := dk_3 (dk_at dksX4_seeded_2 1 rfl rfl)
theorem dX4_seeded_50 : decode cX4_seeded 50 = .ok (.putfield 146, 3) := dk_181 0 146 (dk_at dksX4_seeded_2 2 rfl rfl)
theorem dX4_seeded_53 : decode cX4_seeded 53 = .ok (.aload_n 0, 1) := dk_42 (dk_at dksX4_seeded_2 5 rfl rfl)
theorem dX4_seeded_54 : decode cX4_seeded 54 = .ok (.iconst 0, 1) := dk_3 (dk_at dksX4_seeded_2 6 rfl rfl)
theorem dX4_seeded_55 : decode cX4_seeded 55 = .ok (.putfield 157, 3) := dk_181 0 157 (dk_at dksX4_seeded_2 7 rfl rfl)
theorem dX4_seeded_58 : decode cX4_seeded 58 = .ok (.iconst 0, 1) := dk_3 (dk_at dksX4_seeded_2 10 rfl rfl)
theorem dX4_seeded_59 : decode cX4_seeded 59 = .ok (.istore 4, 2) := dk_54 4 (dk_at dksX4_seeded_2 11 rfl rfl)
theorem dX4_seeded_61 : decode cX4_seeded 61 = .ok (.iload 4, 2) := dk_21 4 (dk_at dksX4_seeded_2 13 rfl rfl)
theorem dX4_seeded_63 : decode cX4_seeded 63 = .ok (.iload_n 1, 1) := dk_27 (dk_at dksX4_seeded_2 15 rfl rfl)
theorem dX4_seeded_64 : decode cX4_seeded 64 = .ok (.if_icmp .ge 44, 3) := dk_162 0 44 (dk_at dksX4_seeded_2 16 rfl rfl)
theorem dX4_seeded_67 : decode cX4_seeded 67 = .ok (.iconst 0, 1) := dk_3 (dk_at dksX4_seeded_2 19 rfl rfl)
theorem dX4_seeded_68 : decode cX4_seeded 68 = .ok (.istore 5, 2) := dk_54 5 (dk_at dksX4_seeded_2 20 rfl rfl)
theorem dX4_seeded_70 : decode cX4_seeded 70 = .ok (.iload 5, 2) := dk_21 5 (dk_at dksX4_seeded_2 22 rfl rfl)
theorem dX4_seeded_72 : decode cX4_seeded 72 = .ok (.aload_n 0, 1) := dk_42 (dk_at dksX4_seeded_3 0 rfl rfl)
theorem dX4_seeded_73 : decode cX4_seeded 73 = .ok (.getfield 112, 3) := dk_180 0 112 (dk_at dksX4_seeded_3 1 rfl rfl)
theorem dX4_seeded_76 : decode cX4_seeded 76 = .ok (.if_icmp .ge 22, 3) := dk_162 0 22 (dk_at dksX4_seeded_3 4 rfl rfl)
theorem dX4_seeded_79 : decode cX4_seeded 79 = .ok (.aload_n 0, 1) := dk_42 (dk_at dksX4_seeded_3 7 rfl rfl)
theorem dX4_seeded_80 : decode cX4_seeded 80 = .ok (.getfield 47, 3) := dk_180 0 47 (dk_at dksX4_seeded_3 8 rfl rfl)
theorem dX4_seeded_83 : decode cX4_seeded 83 = .ok (.iload 5, 2) := dk_21 5 (dk_at dksX4_seeded_3 11 rfl rfl)
theorem dX4_seeded_85 : decode cX4_seeded 85 = .ok (.aload_n 0, 1) := dk_42 (dk_at dksX4_seeded_3 13 rfl rfl)
theorem dX4_seeded_86 : decode cX4_seeded 86 = .ok (.bipush 6, 2) := dk_16 6 (dk_at dksX4_seeded_3 14 rfl rfl)
theorem dX4_seeded_88 : decode cX4_seeded 88 = .ok (.invokevirtual 303, 3) := dk_182 1 47 (dk_at dksX4_seeded_3 16 rfl rfl)
theorem dX4_seeded_91 : decode cX4_seeded 91 = .ok (.iastore, 1) := dk_79 (dk_at dksX4_seeded_3 19 rfl rfl)
theorem dX4_seeded_92 : decode cX4_seeded 92 = .ok (.iinc 5 1, 3) := dk_132 5 1 (dk_at dksX4_seeded_3 20 rfl rfl)
theorem dX4_seeded_95 : decode cX4_seeded 95 = .ok (.goto (-25), 3) := dk_167 255 231 (dk_at dksX4_seeded_4 0 rfl rfl)
theorem dX4_seeded_98 : decode cX4_seeded 98 = .ok (.aload_n 0, 1) := dk_42 (dk_at dksX4_seeded_4 3 rfl rfl)
theorem dX4_seeded_99 : decode cX4_seeded 99 = .ok (.invokevirtual 193, 3) := dk_182 0 193 (dk_at dksX4_seeded_4 4 rfl rfl)
theorem dX4_seeded_102 : decode cX4_seeded 102 = .ok (.iinc 4 1, 3) := dk_132 4 1 (dk_at dksX4_seeded_4 7 rfl rfl)
theorem dX4_seeded_105 : decode cX4_seeded 105 = .ok (.goto (-44), 3) := dk_167 255 212 (dk_at dksX4_seeded_4 10 rfl rfl)
theorem dX4_seeded_108 : decode cX4_seeded 108 = .ok (.aload_n 0, 1) := dk_42 (dk_at dksX4_seeded_4 13 rfl rfl)
theorem dX4_seeded_109 : decode cX4_seeded 109 = .ok (.invokevirtual 256, 3) := dk_182 1 0 (dk_at dksX4_seeded_4 14 rfl rfl)
theorem dX4_seeded_112 : decode cX4_seeded 112 = .ok (.iload_n 3, 1) := dk_29 (dk_at dksX4_seeded_4 17 rfl rfl)
theorem dX4_seeded_113 : decode cX4_seeded 113 = .ok (.ifCond .ne 10, 3) := dk_154 0 10 (dk_at dksX4_seeded_4 18 rfl rfl)
theorem dX4_seeded_116 : decode cX4_seeded 116 = .ok (.aload_n 0, 1) := dk_42 (dk_at dksX4_seeded_4 21 rfl rfl)
theorem dX4_seeded_117 : decode cX4_seeded 117 = .ok (.getfield 146, 3) := dk_180 0 146 (dk_at dksX4_seeded_5 0 rfl rfl)
theorem dX4_seeded_120 : decode cX4_seeded 120 = .ok (.goto 7, 3) := dk_167 0 7 (dk_at dksX4_seeded_5 3 rfl rfl)
theorem dX4_seeded_123 : decode cX4_seeded 123 = .ok (.aload_n 0, 1) := dk_42 (dk_at dksX4_seeded_5 6 rfl rfl)
theorem dX4_seeded_124 : decode cX4_seeded 124 = .ok (.getfield 157, 3) := dk_180 0 157 (dk_at dksX4_seeded_5 7 rfl rfl)
theorem dX4_seeded_127 : decode cX4_seeded 127 = .ok (.ireturn, 1) := dk_172 (dk_at dksX4_seeded_5 10 rfl rfl)
abbrev cX4_draw : ByteArray := prog_21_method_71_code
def yX4_draw : MethodName := ⟨RX4, "draw", "(I)I"⟩
def dkwX4_draw_1 : List UInt8 := [19, 1, 44, 108, 27, 112, 172]
abbrev dktX4_draw_1 : List UInt8 := dkwX4_draw_1 ++ []
def dkwX4_draw_0 : List UInt8 := [42, 42, 180, 1, 39, 19, 1, 42, 104, 17, 48, 57, 96, 181, 1, 39, 42, 180, 1, 39, 19, 1, 43, 126]
abbrev dktX4_draw_0 : List UInt8 := dkwX4_draw_0 ++ dktX4_draw_1
theorem dksX4_draw_0 : cX4_draw.data.toList.drop 0 = dktX4_draw_0 := by decide +kernel
theorem dksX4_draw_1 : cX4_draw.data.toList.drop 24 = dktX4_draw_1 := dk_seg dksX4_draw_0 24 rfl rfl
theorem dX4_draw_0 : decode cX4_draw 0 = .ok (.aload_n 0, 1) := dk_42 (dk_at dksX4_draw_0 0 rfl rfl)
theorem dX4_draw_1 : decode cX4_draw 1 = .ok (.aload_n 0, 1) := dk_42 (dk_at dksX4_draw_0 1 rfl rfl)
theorem dX4_draw_2 : decode cX4_draw 2 = .ok (.getfield 295, 3) := dk_180 1 39 (dk_at dksX4_draw_0 2 rfl rfl)
theorem dX4_draw_5 : decode cX4_draw 5 = .ok (.ldc_w 298, 3) := dk_19 1 42 (dk_at dksX4_draw_0 5 rfl rfl)
theorem dX4_draw_8 : decode cX4_draw 8 = .ok (.imul, 1) := dk_104 (dk_at dksX4_draw_0 8 rfl rfl)
theorem dX4_draw_9 : decode cX4_draw 9 = .ok (.sipush 12345, 3) := dk_17 48 57 (dk_at dksX4_draw_0 9 rfl rfl)
theorem dX4_draw_12 : decode cX4_draw 12 = .ok (.iadd, 1) := dk_96 (dk_at dksX4_draw_0 12 rfl rfl)
theorem dX4_draw_13 : decode cX4_draw 13 = .ok (.putfield 295, 3) := dk_181 1 39 (dk_at dksX4_draw_0 13 rfl rfl)
theorem dX4_draw_16 : decode cX4_draw 16 = .ok (.aload_n 0, 1) := dk_42 (dk_at dksX4_draw_0 16 rfl rfl)
theorem dX4_draw_17 : decode cX4_draw 17 = .ok (.getfield 295, 3) := dk_180 1 39 (dk_at dksX4_draw_0 17 rfl rfl)
theorem dX4_draw_20 : decode cX4_draw 20 = .ok (.ldc_w 299, 3) := dk_19 1 43 (dk_at dksX4_draw_0 20 rfl rfl)
theorem dX4_draw_23 : decode cX4_draw 23 = .ok (.iand, 1) := dk_126 (dk_at dksX4_draw_0 23 rfl rfl)
theorem dX4_draw_24 : decode cX4_draw 24 = .ok (.ldc_w 300, 3) := dk_19 1 44 (dk_at dksX4_draw_1 0 rfl rfl)
theorem dX4_draw_27 : decode cX4_draw 27 = .ok (.idiv, 1) := dk_108 (dk_at dksX4_draw_1 3 rfl rfl)
theorem dX4_draw_28 : decode cX4_draw 28 = .ok (.iload_n 1, 1) := dk_27 (dk_at dksX4_draw_1 4 rfl rfl)
theorem dX4_draw_29 : decode cX4_draw 29 = .ok (.irem, 1) := dk_112 (dk_at dksX4_draw_1 5 rfl rfl)
theorem dX4_draw_30 : decode cX4_draw 30 = .ok (.ireturn, 1) := dk_172 (dk_at dksX4_draw_1 6 rfl rfl)
abbrev cX4_judge : ByteArray := prog_21_method_74_code
def yX4_judge : MethodName := ⟨RX4, "judge", "(II)I"⟩
def dkwX4_judge_4 : List UInt8 := [167, 0, 5, 16, 252, 54, 4, 42, 182, 0, 193, 132, 5, 1, 167, 255, 186, 42, 182, 1, 0, 21, 4, 172]
abbrev dktX4_judge_4 : List UInt8 := dkwX4_judge_4 ++ []
def dkwX4_judge_3 : List UInt8 := [42, 28, 182, 1, 59, 148, 153, 0, 21, 22, 6, 42, 180, 0, 23, 27, 46, 133, 148, 153, 0, 8, 21, 5]
abbrev dktX4_judge_3 : List UInt8 := dkwX4_judge_3 ++ dktX4_judge_4
def dkwX4_judge_2 : List UInt8 := [162, 0, 65, 21, 4, 156, 0, 60, 42, 180, 0, 95, 16, 100, 28, 104, 21, 5, 96, 47, 55, 6, 22, 6]
abbrev dktX4_judge_2 : List UInt8 := dkwX4_judge_2 ++ dktX4_judge_3
def dkwX4_judge_1 : List UInt8 := [156, 0, 5, 29, 172, 42, 182, 0, 250, 16, 252, 54, 4, 3, 54, 5, 21, 5, 42, 180, 0, 92, 28, 46]
abbrev dktX4_judge_1 : List UInt8 := dkwX4_judge_1 ++ dktX4_judge_2
def dkwX4_judge_0 : List UInt8 := [42, 3, 181, 0, 102, 42, 27, 182, 0, 232, 153, 0, 11, 42, 28, 182, 1, 56, 167, 0, 4, 2, 62, 29]
abbrev dktX4_judge_0 : List UInt8 := dkwX4_judge_0 ++ dktX4_judge_1
theorem dksX4_judge_0 : cX4_judge.data.toList.drop 0 = dktX4_judge_0 := by decide +kernel
theorem dksX4_judge_1 : cX4_judge.data.toList.drop 24 = dktX4_judge_1 := dk_seg dksX4_judge_0 24 rfl rfl
theorem dksX4_judge_2 : cX4_judge.data.toList.drop 48 = dktX4_judge_2 := dk_seg dksX4_judge_1 24 rfl rfl
theorem dksX4_judge_3 : cX4_judge.data.toList.drop 72 = dktX4_judge_3 := dk_seg dksX4_judge_2 24 rfl rfl
theorem dksX4_judge_4 : cX4_judge.data.toList.drop 96 = dktX4_judge_4 := dk_seg dksX4_judge_3 24 rfl rfl
theorem dX4_judge_0 : decode cX4_judge 0 = .ok (.aload_n 0, 1) := dk_42 (dk_at dksX4_judge_0 0 rfl rfl)
theorem dX4_judge_1 : decode cX4_judge 1 = .ok (.iconst 0, 1) := dk_3 (dk_at dksX4_judge_0 1 rfl rfl)
theorem dX4_judge_2 : decode cX4_judge 2 = .ok (.putfield 102, 3) := dk_181 0 102 (dk_at dksX4_judge_0 2 rfl rfl)
theorem dX4_judge_5 : decode cX4_judge 5 = .ok (.aload_n 0, 1) := dk_42 (dk_at dksX4_judge_0 5 rfl rfl)
theorem dX4_judge_6 : decode cX4_judge 6 = .ok (.iload_n 1, 1) := dk_27 (dk_at dksX4_judge_0 6 rfl rfl)
theorem dX4_judge_7 : decode cX4_judge 7 = .ok (.invokevirtual 232, 3) := dk_182 0 232 (dk_at dksX4_judge_0 7 rfl rfl)
theorem dX4_judge_10 : decode cX4_judge 10 = .ok (.ifCond .eq 11, 3) := dk_153 0 11 (dk_at dksX4_judge_0 10 rfl rfl)
theorem dX4_judge_13 : decode cX4_judge 13 = .ok (.aload_n 0, 1) := dk_42 (dk_at dksX4_judge_0 13 rfl rfl)
theorem dX4_judge_14 : decode cX4_judge 14 = .ok (.iload_n 2, 1) := dk_28 (dk_at dksX4_judge_0 14 rfl rfl)
theorem dX4_judge_15 : decode cX4_judge 15 = .ok (.invokevirtual 312, 3) := dk_182 1 56 (dk_at dksX4_judge_0 15 rfl rfl)
theorem dX4_judge_18 : decode cX4_judge 18 = .ok (.goto 4, 3) := dk_167 0 4 (dk_at dksX4_judge_0 18 rfl rfl)
theorem dX4_judge_21 : decode cX4_judge 21 = .ok (.iconst (-1), 1) := dk_2 (dk_at dksX4_judge_0 21 rfl rfl)
theorem dX4_judge_22 : decode cX4_judge 22 = .ok (.istore_n 3, 1) := dk_62 (dk_at dksX4_judge_0 22 rfl rfl)
theorem dX4_judge_23 : decode cX4_judge 23 = .ok (.iload_n 3, 1) := dk_29 (dk_at dksX4_judge_0 23 rfl rfl)
theorem dX4_judge_24 : decode cX4_judge 24 = .ok (.ifCond .ge 5, 3) := dk_156 0 5 (dk_at dksX4_judge_1 0 rfl rfl)
theorem dX4_judge_27 : decode cX4_judge 27 = .ok (.iload_n 3, 1) := dk_29 (dk_at dksX4_judge_1 3 rfl rfl)
theorem dX4_judge_28 : decode cX4_judge 28 = .ok (.ireturn, 1) := dk_172 (dk_at dksX4_judge_1 4 rfl rfl)
theorem dX4_judge_29 : decode cX4_judge 29 = .ok (.aload_n 0, 1) := dk_42 (dk_at dksX4_judge_1 5 rfl rfl)
theorem dX4_judge_30 : decode cX4_judge 30 = .ok (.invokevirtual 250, 3) := dk_182 0 250 (dk_at dksX4_judge_1 6 rfl rfl)
theorem dX4_judge_33 : decode cX4_judge 33 = .ok (.bipush (-4), 2) := dk_16 252 (dk_at dksX4_judge_1 9 rfl rfl)
theorem dX4_judge_35 : decode cX4_judge 35 = .ok (.istore 4, 2) := dk_54 4 (dk_at dksX4_judge_1 11 rfl rfl)
theorem dX4_judge_37 : decode cX4_judge 37 = .ok (.iconst 0, 1) := dk_3 (dk_at dksX4_judge_1 13 rfl rfl)
theorem dX4_judge_38 : decode cX4_judge 38 = .ok (.istore 5, 2) := dk_54 5 (dk_at dksX4_judge_1 14 rfl rfl)
theorem dX4_judge_40 : decode cX4_judge 40 = .ok (.iload 5, 2) := dk_21 5 (dk_at dksX4_judge_1 16 rfl rfl)
theorem dX4_judge_42 : decode cX4_judge 42 = .ok (.aload_n 0, 1) := dk_42 (dk_at dksX4_judge_1 18 rfl rfl)
theorem dX4_judge_43 : decode cX4_judge 43 = .ok (.getfield 92, 3) := dk_180 0 92 (dk_at dksX4_judge_1 19 rfl rfl)
theorem dX4_judge_46 : decode cX4_judge 46 = .ok (.iload_n 2, 1) := dk_28 (dk_at dksX4_judge_1 22 rfl rfl)
theorem dX4_judge_47 : decode cX4_judge 47 = .ok (.iaload, 1) := dk_46 (dk_at dksX4_judge_1 23 rfl rfl)
theorem dX4_judge_48 : decode cX4_judge 48 = .ok (.if_icmp .ge 65, 3) := dk_162 0 65 (dk_at dksX4_judge_2 0 rfl rfl)
theorem dX4_judge_51 : decode cX4_judge 51 = .ok (.iload 4, 2) := dk_21 4 (dk_at dksX4_judge_2 3 rfl rfl)
theorem dX4_judge_53 : decode cX4_judge 53 = .ok (.ifCond .ge 60, 3) := dk_156 0 60 (dk_at dksX4_judge_2 5 rfl rfl)
theorem dX4_judge_56 : decode cX4_judge 56 = .ok (.aload_n 0, 1) := dk_42 (dk_at dksX4_judge_2 8 rfl rfl)
theorem dX4_judge_57 : decode cX4_judge 57 = .ok (.getfield 95, 3) := dk_180 0 95 (dk_at dksX4_judge_2 9 rfl rfl)
theorem dX4_judge_60 : decode cX4_judge 60 = .ok (.bipush 100, 2) := dk_16 100 (dk_at dksX4_judge_2 12 rfl rfl)
theorem dX4_judge_62 : decode cX4_judge 62 = .ok (.iload_n 2, 1) := dk_28 (dk_at dksX4_judge_2 14 rfl rfl)
theorem dX4_judge_63 : decode cX4_judge 63 = .ok (.imul, 1) := dk_104 (dk_at dksX4_judge_2 15 rfl rfl)
theorem dX4_judge_64 : decode cX4_judge 64 = .ok (.iload 5, 2) := dk_21 5 (dk_at dksX4_judge_2 16 rfl rfl)
theorem dX4_judge_66 : decode cX4_judge 66 = .ok (.iadd, 1) := dk_96 (dk_at dksX4_judge_2 18 rfl rfl)
theorem dX4_judge_67 : decode cX4_judge 67 = .ok (.laload, 1) := dk_47 (dk_at dksX4_judge_2 19 rfl rfl)
theorem dX4_judge_68 : decode cX4_judge 68 = .ok (.lstore 6, 2) := dk_55 6 (dk_at dksX4_judge_2 20 rfl rfl)
theorem dX4_judge_70 : decode cX4_judge 70 = .ok (.lload 6, 2) := dk_22 6 (dk_at dksX4_judge_2 22 rfl rfl)
theorem dX4_judge_72 : decode cX4_judge 72 = .ok (.aload_n 0, 1) := dk_42 (dk_at dksX4_judge_3 0 rfl rfl)
theorem dX4_judge_73 : decode cX4_judge 73 = .ok (.iload_n 2, 1) := dk_28 (dk_at dksX4_judge_3 1 rfl rfl)
theorem dX4_judge_74 : decode cX4_judge 74 = .ok (.invokevirtual 315, 3) := dk_182 1 59 (dk_at dksX4_judge_3 2 rfl rfl)
theorem dX4_judge_77 : decode cX4_judge 77 = .ok (.lcmp, 1) := dk_148 (dk_at dksX4_judge_3 5 rfl rfl)
theorem dX4_judge_78 : decode cX4_judge 78 = .ok (.ifCond .eq 21, 3) := dk_153 0 21 (dk_at dksX4_judge_3 6 rfl rfl)
theorem dX4_judge_81 : decode cX4_judge 81 = .ok (.lload 6, 2) := dk_22 6 (dk_at dksX4_judge_3 9 rfl rfl)
theorem dX4_judge_83 : decode cX4_judge 83 = .ok (.aload_n 0, 1) := dk_42 (dk_at dksX4_judge_3 11 rfl rfl)
theorem dX4_judge_84 : decode cX4_judge 84 = .ok (.getfield 23, 3) := dk_180 0 23 (dk_at dksX4_judge_3 12 rfl rfl)
theorem dX4_judge_87 : decode cX4_judge 87 = .ok (.iload_n 1, 1) := dk_27 (dk_at dksX4_judge_3 15 rfl rfl)
theorem dX4_judge_88 : decode cX4_judge 88 = .ok (.iaload, 1) := dk_46 (dk_at dksX4_judge_3 16 rfl rfl)
theorem dX4_judge_89 : decode cX4_judge 89 = .ok (.i2l, 1) := dk_133 (dk_at dksX4_judge_3 17 rfl rfl)
theorem dX4_judge_90 : decode cX4_judge 90 = .ok (.lcmp, 1) := dk_148 (dk_at dksX4_judge_3 18 rfl rfl)
theorem dX4_judge_91 : decode cX4_judge 91 = .ok (.ifCond .eq 8, 3) := dk_153 0 8 (dk_at dksX4_judge_3 19 rfl rfl)
theorem dX4_judge_94 : decode cX4_judge 94 = .ok (.iload 5, 2) := dk_21 5 (dk_at dksX4_judge_3 22 rfl rfl)
theorem dX4_judge_96 : decode cX4_judge 96 = .ok (.goto 5, 3) := dk_167 0 5 (dk_at dksX4_judge_4 0 rfl rfl)
theorem dX4_judge_99 : decode cX4_judge 99 = .ok (.bipush (-4), 2) := dk_16 252 (dk_at dksX4_judge_4 3 rfl rfl)
theorem dX4_judge_101 : decode cX4_judge 101 = .ok (.istore 4, 2) := dk_54 4 (dk_at dksX4_judge_4 5 rfl rfl)
theorem dX4_judge_103 : decode cX4_judge 103 = .ok (.aload_n 0, 1) := dk_42 (dk_at dksX4_judge_4 7 rfl rfl)
theorem dX4_judge_104 : decode cX4_judge 104 = .ok (.invokevirtual 193, 3) := dk_182 0 193 (dk_at dksX4_judge_4 8 rfl rfl)
theorem dX4_judge_107 : decode cX4_judge 107 = .ok (.iinc 5 1, 3) := dk_132 5 1 (dk_at dksX4_judge_4 11 rfl rfl)
theorem dX4_judge_110 : decode cX4_judge 110 = .ok (.goto (-70), 3) := dk_167 255 186 (dk_at dksX4_judge_4 14 rfl rfl)
theorem dX4_judge_113 : decode cX4_judge 113 = .ok (.aload_n 0, 1) := dk_42 (dk_at dksX4_judge_4 17 rfl rfl)
theorem dX4_judge_114 : decode cX4_judge 114 = .ok (.invokevirtual 256, 3) := dk_182 1 0 (dk_at dksX4_judge_4 18 rfl rfl)
theorem dX4_judge_117 : decode cX4_judge 117 = .ok (.iload 4, 2) := dk_21 4 (dk_at dksX4_judge_4 21 rfl rfl)
theorem dX4_judge_119 : decode cX4_judge 119 = .ok (.ireturn, 1) := dk_172 (dk_at dksX4_judge_4 23 rfl rfl)
abbrev cX4_skippedIn : ByteArray := prog_21_method_73_code
def yX4_skippedIn : MethodName := ⟨RX4, "skippedIn", "(I)J"⟩
def dkwX4_skippedIn_1 : List UInt8 := [160, 0, 9, 20, 1, 52, 167, 0, 6, 20, 1, 54, 173]
abbrev dktX4_skippedIn_1 : List UInt8 := dkwX4_skippedIn_1 ++ []
def dkwX4_skippedIn_0 : List UInt8 := [42, 180, 0, 89, 27, 46, 154, 0, 9, 20, 1, 50, 167, 0, 22, 42, 180, 0, 89, 27, 46, 4]
abbrev dktX4_skippedIn_0 : List UInt8 := dkwX4_skippedIn_0 ++ dktX4_skippedIn_1
theorem dksX4_skippedIn_0 : cX4_skippedIn.data.toList.drop 0 = dktX4_skippedIn_0 := by decide +kernel
theorem dksX4_skippedIn_1 : cX4_skippedIn.data.toList.drop 22 = dktX4_skippedIn_1 := dk_seg dksX4_skippedIn_0 22 rfl rfl
theorem dX4_skippedIn_0 : decode cX4_skippedIn 0 = .ok (.aload_n 0, 1) := dk_42 (dk_at dksX4_skippedIn_0 0 rfl rfl)
theorem dX4_skippedIn_1 : decode cX4_skippedIn 1 = .ok (.getfield 89, 3) := dk_180 0 89 (dk_at dksX4_skippedIn_0 1 rfl rfl)
theorem dX4_skippedIn_4 : decode cX4_skippedIn 4 = .ok (.iload_n 1, 1) := dk_27 (dk_at dksX4_skippedIn_0 4 rfl rfl)
theorem dX4_skippedIn_5 : decode cX4_skippedIn 5 = .ok (.iaload, 1) := dk_46 (dk_at dksX4_skippedIn_0 5 rfl rfl)
theorem dX4_skippedIn_6 : decode cX4_skippedIn 6 = .ok (.ifCond .ne 9, 3) := dk_154 0 9 (dk_at dksX4_skippedIn_0 6 rfl rfl)
theorem dX4_skippedIn_9 : decode cX4_skippedIn 9 = .ok (.ldc2_w 306, 3) := dk_20 1 50 (dk_at dksX4_skippedIn_0 9 rfl rfl)
theorem dX4_skippedIn_12 : decode cX4_skippedIn 12 = .ok (.goto 22, 3) := dk_167 0 22 (dk_at dksX4_skippedIn_0 12 rfl rfl)
theorem dX4_skippedIn_15 : decode cX4_skippedIn 15 = .ok (.aload_n 0, 1) := dk_42 (dk_at dksX4_skippedIn_0 15 rfl rfl)
theorem dX4_skippedIn_16 : decode cX4_skippedIn 16 = .ok (.getfield 89, 3) := dk_180 0 89 (dk_at dksX4_skippedIn_0 16 rfl rfl)
theorem dX4_skippedIn_19 : decode cX4_skippedIn 19 = .ok (.iload_n 1, 1) := dk_27 (dk_at dksX4_skippedIn_0 19 rfl rfl)
theorem dX4_skippedIn_20 : decode cX4_skippedIn 20 = .ok (.iaload, 1) := dk_46 (dk_at dksX4_skippedIn_0 20 rfl rfl)
theorem dX4_skippedIn_21 : decode cX4_skippedIn 21 = .ok (.iconst 1, 1) := dk_4 (dk_at dksX4_skippedIn_0 21 rfl rfl)
theorem dX4_skippedIn_22 : decode cX4_skippedIn 22 = .ok (.if_icmp .ne 9, 3) := dk_160 0 9 (dk_at dksX4_skippedIn_1 0 rfl rfl)
theorem dX4_skippedIn_25 : decode cX4_skippedIn 25 = .ok (.ldc2_w 308, 3) := dk_20 1 52 (dk_at dksX4_skippedIn_1 3 rfl rfl)
theorem dX4_skippedIn_28 : decode cX4_skippedIn 28 = .ok (.goto 6, 3) := dk_167 0 6 (dk_at dksX4_skippedIn_1 6 rfl rfl)
theorem dX4_skippedIn_31 : decode cX4_skippedIn 31 = .ok (.ldc2_w 310, 3) := dk_20 1 54 (dk_at dksX4_skippedIn_1 9 rfl rfl)
theorem dX4_skippedIn_34 : decode cX4_skippedIn 34 = .ok (.lreturn, 1) := dk_173 (dk_at dksX4_skippedIn_1 12 rfl rfl)
abbrev cX4_count : ByteArray := prog_21_method_75_code
def yX4_count : MethodName := ⟨RX4, "count", "(I)I"⟩
def dkwX4_count_5 : List UInt8 := [182, 1, 29, 172, 29, 172, 2, 172]
abbrev dktX4_count_5 : List UInt8 := dkwX4_count_5 ++ []
def dkwX4_count_4 : List UInt8 := [42, 180, 0, 105, 172, 42, 180, 0, 112, 172, 42, 180, 0, 7, 172, 42, 180, 0, 133, 172, 28, 172, 42]
abbrev dktX4_count_4 : List UInt8 := dkwX4_count_4 ++ dktX4_count_5
def dkwX4_count_3 : List UInt8 := [170, 0, 0, 0, 0, 71, 0, 0, 0, 0, 0, 0, 0, 6, 0, 0, 0, 42, 0, 0, 0, 47, 0, 0, 0, 52, 0, 0, 0, 57, 0, 0, 0, 62, 0, 0, 0, 64, 0, 0, 0, 69]
abbrev dktX4_count_3 : List UInt8 := dkwX4_count_3 ++ dktX4_count_4
def dkwX4_count_2 : List UInt8 := [167, 0, 4, 3, 96, 62, 132, 4, 1, 167, 255, 214, 27]
abbrev dktX4_count_2 : List UInt8 := dkwX4_count_2 ++ dktX4_count_3
def dkwX4_count_1 : List UInt8 := [180, 0, 20, 21, 4, 46, 96, 61, 29, 42, 180, 0, 23, 21, 4, 46, 16, 20, 160, 0, 7, 4]
abbrev dktX4_count_1 : List UInt8 := dkwX4_count_1 ++ dktX4_count_2
def dkwX4_count_0 : List UInt8 := [42, 3, 181, 0, 102, 3, 61, 3, 62, 3, 54, 4, 21, 4, 42, 180, 0, 105, 162, 0, 39, 28, 42]
abbrev dktX4_count_0 : List UInt8 := dkwX4_count_0 ++ dktX4_count_1
theorem dksX4_count_0 : cX4_count.data.toList.drop 0 = dktX4_count_0 := by decide +kernel
theorem dksX4_count_1 : cX4_count.data.toList.drop 23 = dktX4_count_1 := dk_seg dksX4_count_0 23 rfl rfl
theorem dksX4_count_2 : cX4_count.data.toList.drop 45 = dktX4_count_2 := dk_seg dksX4_count_1 22 rfl rfl
theorem dksX4_count_3 : cX4_count.data.toList.drop 58 = dktX4_count_3 := dk_seg dksX4_count_2 13 rfl rfl
theorem dksX4_count_4 : cX4_count.data.toList.drop 100 = dktX4_count_4 := dk_seg dksX4_count_3 42 rfl rfl
theorem dksX4_count_5 : cX4_count.data.toList.drop 123 = dktX4_count_5 := dk_seg dksX4_count_4 23 rfl rfl
theorem dX4_count_0 : decode cX4_count 0 = .ok (.aload_n 0, 1) := dk_42 (dk_at dksX4_count_0 0 rfl rfl)
theorem dX4_count_1 : decode cX4_count 1 = .ok (.iconst 0, 1) := dk_3 (dk_at dksX4_count_0 1 rfl rfl)
theorem dX4_count_2 : decode cX4_count 2 = .ok (.putfield 102, 3) := dk_181 0 102 (dk_at dksX4_count_0 2 rfl rfl)
theorem dX4_count_5 : decode cX4_count 5 = .ok (.iconst 0, 1) := dk_3 (dk_at dksX4_count_0 5 rfl rfl)
theorem dX4_count_6 : decode cX4_count 6 = .ok (.istore_n 2, 1) := dk_61 (dk_at dksX4_count_0 6 rfl rfl)
theorem dX4_count_7 : decode cX4_count 7 = .ok (.iconst 0, 1) := dk_3 (dk_at dksX4_count_0 7 rfl rfl)
theorem dX4_count_8 : decode cX4_count 8 = .ok (.istore_n 3, 1) := dk_62 (dk_at dksX4_count_0 8 rfl rfl)
theorem dX4_count_9 : decode cX4_count 9 = .ok (.iconst 0, 1) := dk_3 (dk_at dksX4_count_0 9 rfl rfl)
theorem dX4_count_10 : decode cX4_count 10 = .ok (.istore 4, 2) := dk_54 4 (dk_at dksX4_count_0 10 rfl rfl)
theorem dX4_count_12 : decode cX4_count 12 = .ok (.iload 4, 2) := dk_21 4 (dk_at dksX4_count_0 12 rfl rfl)
theorem dX4_count_14 : decode cX4_count 14 = .ok (.aload_n 0, 1) := dk_42 (dk_at dksX4_count_0 14 rfl rfl)
theorem dX4_count_15 : decode cX4_count 15 = .ok (.getfield 105, 3) := dk_180 0 105 (dk_at dksX4_count_0 15 rfl rfl)
theorem dX4_count_18 : decode cX4_count 18 = .ok (.if_icmp .ge 39, 3) := dk_162 0 39 (dk_at dksX4_count_0 18 rfl rfl)
theorem dX4_count_21 : decode cX4_count 21 = .ok (.iload_n 2, 1) := dk_28 (dk_at dksX4_count_0 21 rfl rfl)
theorem dX4_count_22 : decode cX4_count 22 = .ok (.aload_n 0, 1) := dk_42 (dk_at dksX4_count_0 22 rfl rfl)
theorem dX4_count_23 : decode cX4_count 23 = .ok (.getfield 20, 3) := dk_180 0 20 (dk_at dksX4_count_1 0 rfl rfl)
theorem dX4_count_26 : decode cX4_count 26 = .ok (.iload 4, 2) := dk_21 4 (dk_at dksX4_count_1 3 rfl rfl)
theorem dX4_count_28 : decode cX4_count 28 = .ok (.iaload, 1) := dk_46 (dk_at dksX4_count_1 5 rfl rfl)
theorem dX4_count_29 : decode cX4_count 29 = .ok (.iadd, 1) := dk_96 (dk_at dksX4_count_1 6 rfl rfl)
theorem dX4_count_30 : decode cX4_count 30 = .ok (.istore_n 2, 1) := dk_61 (dk_at dksX4_count_1 7 rfl rfl)
theorem dX4_count_31 : decode cX4_count 31 = .ok (.iload_n 3, 1) := dk_29 (dk_at dksX4_count_1 8 rfl rfl)
theorem dX4_count_32 : decode cX4_count 32 = .ok (.aload_n 0, 1) := dk_42 (dk_at dksX4_count_1 9 rfl rfl)
theorem dX4_count_33 : decode cX4_count 33 = .ok (.getfield 23, 3) := dk_180 0 23 (dk_at dksX4_count_1 10 rfl rfl)
theorem dX4_count_36 : decode cX4_count 36 = .ok (.iload 4, 2) := dk_21 4 (dk_at dksX4_count_1 13 rfl rfl)
theorem dX4_count_38 : decode cX4_count 38 = .ok (.iaload, 1) := dk_46 (dk_at dksX4_count_1 15 rfl rfl)
theorem dX4_count_39 : decode cX4_count 39 = .ok (.bipush 20, 2) := dk_16 20 (dk_at dksX4_count_1 16 rfl rfl)
theorem dX4_count_41 : decode cX4_count 41 = .ok (.if_icmp .ne 7, 3) := dk_160 0 7 (dk_at dksX4_count_1 18 rfl rfl)
theorem dX4_count_44 : decode cX4_count 44 = .ok (.iconst 1, 1) := dk_4 (dk_at dksX4_count_1 21 rfl rfl)
theorem dX4_count_45 : decode cX4_count 45 = .ok (.goto 4, 3) := dk_167 0 4 (dk_at dksX4_count_2 0 rfl rfl)
theorem dX4_count_48 : decode cX4_count 48 = .ok (.iconst 0, 1) := dk_3 (dk_at dksX4_count_2 3 rfl rfl)
theorem dX4_count_49 : decode cX4_count 49 = .ok (.iadd, 1) := dk_96 (dk_at dksX4_count_2 4 rfl rfl)
theorem dX4_count_50 : decode cX4_count 50 = .ok (.istore_n 3, 1) := dk_62 (dk_at dksX4_count_2 5 rfl rfl)
theorem dX4_count_51 : decode cX4_count 51 = .ok (.iinc 4 1, 3) := dk_132 4 1 (dk_at dksX4_count_2 6 rfl rfl)
theorem dX4_count_54 : decode cX4_count 54 = .ok (.goto (-42), 3) := dk_167 255 214 (dk_at dksX4_count_2 9 rfl rfl)
theorem dX4_count_57 : decode cX4_count 57 = .ok (.iload_n 1, 1) := dk_27 (dk_at dksX4_count_2 12 rfl rfl)
theorem dX4_count_58 : decode cX4_count 58 = .ok (.tableswitch 71 0 6 #[42, 47, 52, 57, 62, 64, 69], 42) := by decide +kernel
theorem dX4_count_100 : decode cX4_count 100 = .ok (.aload_n 0, 1) := dk_42 (dk_at dksX4_count_4 0 rfl rfl)
theorem dX4_count_101 : decode cX4_count 101 = .ok (.getfield 105, 3) := dk_180 0 105 (dk_at dksX4_count_4 1 rfl rfl)
theorem dX4_count_104 : decode cX4_count 104 = .ok (.ireturn, 1) := dk_172 (dk_at dksX4_count_4 4 rfl rfl)
theorem dX4_count_105 : decode cX4_count 105 = .ok (.aload_n 0, 1) := dk_42 (dk_at dksX4_count_4 5 rfl rfl)
theorem dX4_count_106 : decode cX4_count 106 = .ok (.getfield 112, 3) := dk_180 0 112 (dk_at dksX4_count_4 6 rfl rfl)
theorem dX4_count_109 : decode cX4_count 109 = .ok (.ireturn, 1) := dk_172 (dk_at dksX4_count_4 9 rfl rfl)
theorem dX4_count_110 : decode cX4_count 110 = .ok (.aload_n 0, 1) := dk_42 (dk_at dksX4_count_4 10 rfl rfl)
theorem dX4_count_111 : decode cX4_count 111 = .ok (.getfield 7, 3) := dk_180 0 7 (dk_at dksX4_count_4 11 rfl rfl)
theorem dX4_count_114 : decode cX4_count 114 = .ok (.ireturn, 1) := dk_172 (dk_at dksX4_count_4 14 rfl rfl)
theorem dX4_count_115 : decode cX4_count 115 = .ok (.aload_n 0, 1) := dk_42 (dk_at dksX4_count_4 15 rfl rfl)
theorem dX4_count_116 : decode cX4_count 116 = .ok (.getfield 133, 3) := dk_180 0 133 (dk_at dksX4_count_4 16 rfl rfl)
theorem dX4_count_119 : decode cX4_count 119 = .ok (.ireturn, 1) := dk_172 (dk_at dksX4_count_4 19 rfl rfl)
theorem dX4_count_120 : decode cX4_count 120 = .ok (.iload_n 2, 1) := dk_28 (dk_at dksX4_count_4 20 rfl rfl)
theorem dX4_count_121 : decode cX4_count 121 = .ok (.ireturn, 1) := dk_172 (dk_at dksX4_count_4 21 rfl rfl)
theorem dX4_count_122 : decode cX4_count 122 = .ok (.aload_n 0, 1) := dk_42 (dk_at dksX4_count_4 22 rfl rfl)
theorem dX4_count_123 : decode cX4_count 123 = .ok (.invokevirtual 285, 3) := dk_182 1 29 (dk_at dksX4_count_5 0 rfl rfl)
theorem dX4_count_126 : decode cX4_count 126 = .ok (.ireturn, 1) := dk_172 (dk_at dksX4_count_5 3 rfl rfl)
theorem dX4_count_127 : decode cX4_count 127 = .ok (.iload_n 3, 1) := dk_29 (dk_at dksX4_count_5 4 rfl rfl)
theorem dX4_count_128 : decode cX4_count 128 = .ok (.ireturn, 1) := dk_172 (dk_at dksX4_count_5 5 rfl rfl)
theorem dX4_count_129 : decode cX4_count 129 = .ok (.iconst (-1), 1) := dk_2 (dk_at dksX4_count_5 6 rfl rfl)
theorem dX4_count_130 : decode cX4_count 130 = .ok (.ireturn, 1) := dk_172 (dk_at dksX4_count_5 7 rfl rfl)
abbrev cX4_keep : ByteArray := prog_21_method_77_code
def yX4_keep : MethodName := ⟨RX4, "keep", "(IIII)I"⟩
def dkwX4_keep_4 : List UInt8 := [167, 0, 4, 3, 79, 3, 172]
abbrev dktX4_keep_4 : List UInt8 := dkwX4_keep_4 ++ []
def dkwX4_keep_3 : List UInt8 := [4, 160, 0, 7, 29, 167, 0, 4, 3, 79, 42, 180, 0, 86, 27, 28, 4, 160, 0, 8, 21, 4]
abbrev dktX4_keep_3 : List UInt8 := dkwX4_keep_3 ++ dktX4_keep_4
def dkwX4_keep_2 : List UInt8 := [20, 1, 63, 184, 0, 108, 154, 0, 5, 2, 172, 42, 180, 0, 80, 27, 28, 79, 42, 180, 0, 83, 27, 28]
abbrev dktX4_keep_2 : List UInt8 := dkwX4_keep_2 ++ dktX4_keep_3
def dkwX4_keep_1 : List UInt8 := [153, 0, 33, 28, 4, 160, 0, 30, 29, 133, 9, 20, 1, 7, 184, 0, 108, 153, 0, 16, 21, 4, 133, 9]
abbrev dktX4_keep_1 : List UInt8 := dkwX4_keep_1 ++ dktX4_keep_2
def dkwX4_keep_0 : List UInt8 := [42, 3, 181, 0, 102, 27, 133, 9, 20, 1, 7, 184, 0, 108, 153, 0, 43, 28, 133, 9, 10, 184, 0, 108]
abbrev dktX4_keep_0 : List UInt8 := dkwX4_keep_0 ++ dktX4_keep_1
theorem dksX4_keep_0 : cX4_keep.data.toList.drop 0 = dktX4_keep_0 := by decide +kernel
theorem dksX4_keep_1 : cX4_keep.data.toList.drop 24 = dktX4_keep_1 := dk_seg dksX4_keep_0 24 rfl rfl
theorem dksX4_keep_2 : cX4_keep.data.toList.drop 48 = dktX4_keep_2 := dk_seg dksX4_keep_1 24 rfl rfl
theorem dksX4_keep_3 : cX4_keep.data.toList.drop 72 = dktX4_keep_3 := dk_seg dksX4_keep_2 24 rfl rfl
theorem dksX4_keep_4 : cX4_keep.data.toList.drop 94 = dktX4_keep_4 := dk_seg dksX4_keep_3 22 rfl rfl
theorem dX4_keep_0 : decode cX4_keep 0 = .ok (.aload_n 0, 1) := dk_42 (dk_at dksX4_keep_0 0 rfl rfl)
theorem dX4_keep_1 : decode cX4_keep 1 = .ok (.iconst 0, 1) := dk_3 (dk_at dksX4_keep_0 1 rfl rfl)
theorem dX4_keep_2 : decode cX4_keep 2 = .ok (.putfield 102, 3) := dk_181 0 102 (dk_at dksX4_keep_0 2 rfl rfl)
theorem dX4_keep_5 : decode cX4_keep 5 = .ok (.iload_n 1, 1) := dk_27 (dk_at dksX4_keep_0 5 rfl rfl)
theorem dX4_keep_6 : decode cX4_keep 6 = .ok (.i2l, 1) := dk_133 (dk_at dksX4_keep_0 6 rfl rfl)
theorem dX4_keep_7 : decode cX4_keep 7 = .ok (.lconst 0, 1) := dk_9 (dk_at dksX4_keep_0 7 rfl rfl)
theorem dX4_keep_8 : decode cX4_keep 8 = .ok (.ldc2_w 263, 3) := dk_20 1 7 (dk_at dksX4_keep_0 8 rfl rfl)
theorem dX4_keep_11 : decode cX4_keep 11 = .ok (.invokestatic 108, 3) := dk_184 0 108 (dk_at dksX4_keep_0 11 rfl rfl)
theorem dX4_keep_14 : decode cX4_keep 14 = .ok (.ifCond .eq 43, 3) := dk_153 0 43 (dk_at dksX4_keep_0 14 rfl rfl)
theorem dX4_keep_17 : decode cX4_keep 17 = .ok (.iload_n 2, 1) := dk_28 (dk_at dksX4_keep_0 17 rfl rfl)
theorem dX4_keep_18 : decode cX4_keep 18 = .ok (.i2l, 1) := dk_133 (dk_at dksX4_keep_0 18 rfl rfl)
theorem dX4_keep_19 : decode cX4_keep 19 = .ok (.lconst 0, 1) := dk_9 (dk_at dksX4_keep_0 19 rfl rfl)
theorem dX4_keep_20 : decode cX4_keep 20 = .ok (.lconst 1, 1) := dk_10 (dk_at dksX4_keep_0 20 rfl rfl)
theorem dX4_keep_21 : decode cX4_keep 21 = .ok (.invokestatic 108, 3) := dk_184 0 108 (dk_at dksX4_keep_0 21 rfl rfl)
theorem dX4_keep_24 : decode cX4_keep 24 = .ok (.ifCond .eq 33, 3) := dk_153 0 33 (dk_at dksX4_keep_1 0 rfl rfl)
theorem dX4_keep_27 : decode cX4_keep 27 = .ok (.iload_n 2, 1) := dk_28 (dk_at dksX4_keep_1 3 rfl rfl)
theorem dX4_keep_28 : decode cX4_keep 28 = .ok (.iconst 1, 1) := dk_4 (dk_at dksX4_keep_1 4 rfl rfl)
theorem dX4_keep_29 : decode cX4_keep 29 = .ok (.if_icmp .ne 30, 3) := dk_160 0 30 (dk_at dksX4_keep_1 5 rfl rfl)
theorem dX4_keep_32 : decode cX4_keep 32 = .ok (.iload_n 3, 1) := dk_29 (dk_at dksX4_keep_1 8 rfl rfl)
theorem dX4_keep_33 : decode cX4_keep 33 = .ok (.i2l, 1) := dk_133 (dk_at dksX4_keep_1 9 rfl rfl)
theorem dX4_keep_34 : decode cX4_keep 34 = .ok (.lconst 0, 1) := dk_9 (dk_at dksX4_keep_1 10 rfl rfl)
theorem dX4_keep_35 : decode cX4_keep 35 = .ok (.ldc2_w 263, 3) := dk_20 1 7 (dk_at dksX4_keep_1 11 rfl rfl)
theorem dX4_keep_38 : decode cX4_keep 38 = .ok (.invokestatic 108, 3) := dk_184 0 108 (dk_at dksX4_keep_1 14 rfl rfl)
theorem dX4_keep_41 : decode cX4_keep 41 = .ok (.ifCond .eq 16, 3) := dk_153 0 16 (dk_at dksX4_keep_1 17 rfl rfl)
theorem dX4_keep_44 : decode cX4_keep 44 = .ok (.iload 4, 2) := dk_21 4 (dk_at dksX4_keep_1 20 rfl rfl)
theorem dX4_keep_46 : decode cX4_keep 46 = .ok (.i2l, 1) := dk_133 (dk_at dksX4_keep_1 22 rfl rfl)
theorem dX4_keep_47 : decode cX4_keep 47 = .ok (.lconst 0, 1) := dk_9 (dk_at dksX4_keep_1 23 rfl rfl)
theorem dX4_keep_48 : decode cX4_keep 48 = .ok (.ldc2_w 319, 3) := dk_20 1 63 (dk_at dksX4_keep_2 0 rfl rfl)
theorem dX4_keep_51 : decode cX4_keep 51 = .ok (.invokestatic 108, 3) := dk_184 0 108 (dk_at dksX4_keep_2 3 rfl rfl)
theorem dX4_keep_54 : decode cX4_keep 54 = .ok (.ifCond .ne 5, 3) := dk_154 0 5 (dk_at dksX4_keep_2 6 rfl rfl)
theorem dX4_keep_57 : decode cX4_keep 57 = .ok (.iconst (-1), 1) := dk_2 (dk_at dksX4_keep_2 9 rfl rfl)
theorem dX4_keep_58 : decode cX4_keep 58 = .ok (.ireturn, 1) := dk_172 (dk_at dksX4_keep_2 10 rfl rfl)
theorem dX4_keep_59 : decode cX4_keep 59 = .ok (.aload_n 0, 1) := dk_42 (dk_at dksX4_keep_2 11 rfl rfl)
theorem dX4_keep_60 : decode cX4_keep 60 = .ok (.getfield 80, 3) := dk_180 0 80 (dk_at dksX4_keep_2 12 rfl rfl)
theorem dX4_keep_63 : decode cX4_keep 63 = .ok (.iload_n 1, 1) := dk_27 (dk_at dksX4_keep_2 15 rfl rfl)
theorem dX4_keep_64 : decode cX4_keep 64 = .ok (.iload_n 2, 1) := dk_28 (dk_at dksX4_keep_2 16 rfl rfl)
theorem dX4_keep_65 : decode cX4_keep 65 = .ok (.iastore, 1) := dk_79 (dk_at dksX4_keep_2 17 rfl rfl)
theorem dX4_keep_66 : decode cX4_keep 66 = .ok (.aload_n 0, 1) := dk_42 (dk_at dksX4_keep_2 18 rfl rfl)
theorem dX4_keep_67 : decode cX4_keep 67 = .ok (.getfield 83, 3) := dk_180 0 83 (dk_at dksX4_keep_2 19 rfl rfl)
theorem dX4_keep_70 : decode cX4_keep 70 = .ok (.iload_n 1, 1) := dk_27 (dk_at dksX4_keep_2 22 rfl rfl)
theorem dX4_keep_71 : decode cX4_keep 71 = .ok (.iload_n 2, 1) := dk_28 (dk_at dksX4_keep_2 23 rfl rfl)
theorem dX4_keep_72 : decode cX4_keep 72 = .ok (.iconst 1, 1) := dk_4 (dk_at dksX4_keep_3 0 rfl rfl)
theorem dX4_keep_73 : decode cX4_keep 73 = .ok (.if_icmp .ne 7, 3) := dk_160 0 7 (dk_at dksX4_keep_3 1 rfl rfl)
theorem dX4_keep_76 : decode cX4_keep 76 = .ok (.iload_n 3, 1) := dk_29 (dk_at dksX4_keep_3 4 rfl rfl)
theorem dX4_keep_77 : decode cX4_keep 77 = .ok (.goto 4, 3) := dk_167 0 4 (dk_at dksX4_keep_3 5 rfl rfl)
theorem dX4_keep_80 : decode cX4_keep 80 = .ok (.iconst 0, 1) := dk_3 (dk_at dksX4_keep_3 8 rfl rfl)
theorem dX4_keep_81 : decode cX4_keep 81 = .ok (.iastore, 1) := dk_79 (dk_at dksX4_keep_3 9 rfl rfl)
theorem dX4_keep_82 : decode cX4_keep 82 = .ok (.aload_n 0, 1) := dk_42 (dk_at dksX4_keep_3 10 rfl rfl)
theorem dX4_keep_83 : decode cX4_keep 83 = .ok (.getfield 86, 3) := dk_180 0 86 (dk_at dksX4_keep_3 11 rfl rfl)
theorem dX4_keep_86 : decode cX4_keep 86 = .ok (.iload_n 1, 1) := dk_27 (dk_at dksX4_keep_3 14 rfl rfl)
theorem dX4_keep_87 : decode cX4_keep 87 = .ok (.iload_n 2, 1) := dk_28 (dk_at dksX4_keep_3 15 rfl rfl)
theorem dX4_keep_88 : decode cX4_keep 88 = .ok (.iconst 1, 1) := dk_4 (dk_at dksX4_keep_3 16 rfl rfl)
theorem dX4_keep_89 : decode cX4_keep 89 = .ok (.if_icmp .ne 8, 3) := dk_160 0 8 (dk_at dksX4_keep_3 17 rfl rfl)
theorem dX4_keep_92 : decode cX4_keep 92 = .ok (.iload 4, 2) := dk_21 4 (dk_at dksX4_keep_3 20 rfl rfl)
theorem dX4_keep_94 : decode cX4_keep 94 = .ok (.goto 4, 3) := dk_167 0 4 (dk_at dksX4_keep_4 0 rfl rfl)
theorem dX4_keep_97 : decode cX4_keep 97 = .ok (.iconst 0, 1) := dk_3 (dk_at dksX4_keep_4 3 rfl rfl)
theorem dX4_keep_98 : decode cX4_keep 98 = .ok (.iastore, 1) := dk_79 (dk_at dksX4_keep_4 4 rfl rfl)
theorem dX4_keep_99 : decode cX4_keep 99 = .ok (.iconst 0, 1) := dk_3 (dk_at dksX4_keep_4 5 rfl rfl)
theorem dX4_keep_100 : decode cX4_keep 100 = .ok (.ireturn, 1) := dk_172 (dk_at dksX4_keep_4 6 rfl rfl)
abbrev cX4_row : ByteArray := prog_21_method_80_code
def yX4_row : MethodName := ⟨RX4, "row", "(III)I"⟩
def dkwX4_row_4 : List UInt8 := [167, 255, 233, 3, 172]
abbrev dktX4_row_4 : List UInt8 := dkwX4_row_4 ++ []
def dkwX4_row_3 : List UInt8 := [21, 4, 16, 100, 162, 0, 22, 42, 180, 0, 95, 16, 100, 27, 104, 21, 4, 96, 9, 80, 132, 4, 1]
abbrev dktX4_row_3 : List UInt8 := dkwX4_row_3 ++ dktX4_row_4
def dkwX4_row_2 : List UInt8 := [180, 0, 80, 27, 5, 79, 42, 180, 0, 89, 27, 28, 79, 42, 180, 0, 92, 27, 29, 79, 3, 54, 4]
abbrev dktX4_row_2 : List UInt8 := dkwX4_row_2 ++ dktX4_row_3
def dkwX4_row_1 : List UInt8 := [184, 0, 108, 153, 0, 9, 29, 16, 100, 164, 0, 5, 2, 172, 29, 156, 0, 6, 16, 242, 172, 42]
abbrev dktX4_row_1 : List UInt8 := dkwX4_row_1 ++ dktX4_row_2
def dkwX4_row_0 : List UInt8 := [42, 3, 181, 0, 102, 27, 133, 9, 20, 1, 7, 184, 0, 108, 153, 0, 21, 28, 133, 9, 20, 1, 65]
abbrev dktX4_row_0 : List UInt8 := dkwX4_row_0 ++ dktX4_row_1
theorem dksX4_row_0 : cX4_row.data.toList.drop 0 = dktX4_row_0 := by decide +kernel
theorem dksX4_row_1 : cX4_row.data.toList.drop 23 = dktX4_row_1 := dk_seg dksX4_row_0 23 rfl rfl
theorem dksX4_row_2 : cX4_row.data.toList.drop 45 = dktX4_row_2 := dk_seg dksX4_row_1 22 rfl rfl
theorem dksX4_row_3 : cX4_row.data.toList.drop 68 = dktX4_row_3 := dk_seg dksX4_row_2 23 rfl rfl
theorem dksX4_row_4 : cX4_row.data.toList.drop 91 = dktX4_row_4 := dk_seg dksX4_row_3 23 rfl rfl
theorem dX4_row_0 : decode cX4_row 0 = .ok (.aload_n 0, 1) := dk_42 (dk_at dksX4_row_0 0 rfl rfl)
theorem dX4_row_1 : decode cX4_row 1 = .ok (.iconst 0, 1) := dk_3 (dk_at dksX4_row_0 1 rfl rfl)
theorem dX4_row_2 : decode cX4_row 2 = .ok (.putfield 102, 3) := dk_181 0 102 (dk_at dksX4_row_0 2 rfl rfl)
theorem dX4_row_5 : decode cX4_row 5 = .ok (.iload_n 1, 1) := dk_27 (dk_at dksX4_row_0 5 rfl rfl)
theorem dX4_row_6 : decode cX4_row 6 = .ok (.i2l, 1) := dk_133 (dk_at dksX4_row_0 6 rfl rfl)
theorem dX4_row_7 : decode cX4_row 7 = .ok (.lconst 0, 1) := dk_9 (dk_at dksX4_row_0 7 rfl rfl)
theorem dX4_row_8 : decode cX4_row 8 = .ok (.ldc2_w 263, 3) := dk_20 1 7 (dk_at dksX4_row_0 8 rfl rfl)
theorem dX4_row_11 : decode cX4_row 11 = .ok (.invokestatic 108, 3) := dk_184 0 108 (dk_at dksX4_row_0 11 rfl rfl)
theorem dX4_row_14 : decode cX4_row 14 = .ok (.ifCond .eq 21, 3) := dk_153 0 21 (dk_at dksX4_row_0 14 rfl rfl)
theorem dX4_row_17 : decode cX4_row 17 = .ok (.iload_n 2, 1) := dk_28 (dk_at dksX4_row_0 17 rfl rfl)
theorem dX4_row_18 : decode cX4_row 18 = .ok (.i2l, 1) := dk_133 (dk_at dksX4_row_0 18 rfl rfl)
theorem dX4_row_19 : decode cX4_row 19 = .ok (.lconst 0, 1) := dk_9 (dk_at dksX4_row_0 19 rfl rfl)
theorem dX4_row_20 : decode cX4_row 20 = .ok (.ldc2_w 321, 3) := dk_20 1 65 (dk_at dksX4_row_0 20 rfl rfl)
theorem dX4_row_23 : decode cX4_row 23 = .ok (.invokestatic 108, 3) := dk_184 0 108 (dk_at dksX4_row_1 0 rfl rfl)
theorem dX4_row_26 : decode cX4_row 26 = .ok (.ifCond .eq 9, 3) := dk_153 0 9 (dk_at dksX4_row_1 3 rfl rfl)
theorem dX4_row_29 : decode cX4_row 29 = .ok (.iload_n 3, 1) := dk_29 (dk_at dksX4_row_1 6 rfl rfl)
theorem dX4_row_30 : decode cX4_row 30 = .ok (.bipush 100, 2) := dk_16 100 (dk_at dksX4_row_1 7 rfl rfl)
theorem dX4_row_32 : decode cX4_row 32 = .ok (.if_icmp .le 5, 3) := dk_164 0 5 (dk_at dksX4_row_1 9 rfl rfl)
theorem dX4_row_35 : decode cX4_row 35 = .ok (.iconst (-1), 1) := dk_2 (dk_at dksX4_row_1 12 rfl rfl)
theorem dX4_row_36 : decode cX4_row 36 = .ok (.ireturn, 1) := dk_172 (dk_at dksX4_row_1 13 rfl rfl)
theorem dX4_row_37 : decode cX4_row 37 = .ok (.iload_n 3, 1) := dk_29 (dk_at dksX4_row_1 14 rfl rfl)
theorem dX4_row_38 : decode cX4_row 38 = .ok (.ifCond .ge 6, 3) := dk_156 0 6 (dk_at dksX4_row_1 15 rfl rfl)
theorem dX4_row_41 : decode cX4_row 41 = .ok (.bipush (-14), 2) := dk_16 242 (dk_at dksX4_row_1 18 rfl rfl)
theorem dX4_row_43 : decode cX4_row 43 = .ok (.ireturn, 1) := dk_172 (dk_at dksX4_row_1 20 rfl rfl)
theorem dX4_row_44 : decode cX4_row 44 = .ok (.aload_n 0, 1) := dk_42 (dk_at dksX4_row_1 21 rfl rfl)
theorem dX4_row_45 : decode cX4_row 45 = .ok (.getfield 80, 3) := dk_180 0 80 (dk_at dksX4_row_2 0 rfl rfl)
theorem dX4_row_48 : decode cX4_row 48 = .ok (.iload_n 1, 1) := dk_27 (dk_at dksX4_row_2 3 rfl rfl)
theorem dX4_row_49 : decode cX4_row 49 = .ok (.iconst 2, 1) := dk_5 (dk_at dksX4_row_2 4 rfl rfl)
theorem dX4_row_50 : decode cX4_row 50 = .ok (.iastore, 1) := dk_79 (dk_at dksX4_row_2 5 rfl rfl)
theorem dX4_row_51 : decode cX4_row 51 = .ok (.aload_n 0, 1) := dk_42 (dk_at dksX4_row_2 6 rfl rfl)
theorem dX4_row_52 : decode cX4_row 52 = .ok (.getfield 89, 3) := dk_180 0 89 (dk_at dksX4_row_2 7 rfl rfl)
theorem dX4_row_55 : decode cX4_row 55 = .ok (.iload_n 1, 1) := dk_27 (dk_at dksX4_row_2 10 rfl rfl)
theorem dX4_row_56 : decode cX4_row 56 = .ok (.iload_n 2, 1) := dk_28 (dk_at dksX4_row_2 11 rfl rfl)
theorem dX4_row_57 : decode cX4_row 57 = .ok (.iastore, 1) := dk_79 (dk_at dksX4_row_2 12 rfl rfl)
theorem dX4_row_58 : decode cX4_row 58 = .ok (.aload_n 0, 1) := dk_42 (dk_at dksX4_row_2 13 rfl rfl)
theorem dX4_row_59 : decode cX4_row 59 = .ok (.getfield 92, 3) := dk_180 0 92 (dk_at dksX4_row_2 14 rfl rfl)
theorem dX4_row_62 : decode cX4_row 62 = .ok (.iload_n 1, 1) := dk_27 (dk_at dksX4_row_2 17 rfl rfl)
theorem dX4_row_63 : decode cX4_row 63 = .ok (.iload_n 3, 1) := dk_29 (dk_at dksX4_row_2 18 rfl rfl)
theorem dX4_row_64 : decode cX4_row 64 = .ok (.iastore, 1) := dk_79 (dk_at dksX4_row_2 19 rfl rfl)
theorem dX4_row_65 : decode cX4_row 65 = .ok (.iconst 0, 1) := dk_3 (dk_at dksX4_row_2 20 rfl rfl)
theorem dX4_row_66 : decode cX4_row 66 = .ok (.istore 4, 2) := dk_54 4 (dk_at dksX4_row_2 21 rfl rfl)
theorem dX4_row_68 : decode cX4_row 68 = .ok (.iload 4, 2) := dk_21 4 (dk_at dksX4_row_3 0 rfl rfl)
theorem dX4_row_70 : decode cX4_row 70 = .ok (.bipush 100, 2) := dk_16 100 (dk_at dksX4_row_3 2 rfl rfl)
theorem dX4_row_72 : decode cX4_row 72 = .ok (.if_icmp .ge 22, 3) := dk_162 0 22 (dk_at dksX4_row_3 4 rfl rfl)
theorem dX4_row_75 : decode cX4_row 75 = .ok (.aload_n 0, 1) := dk_42 (dk_at dksX4_row_3 7 rfl rfl)
theorem dX4_row_76 : decode cX4_row 76 = .ok (.getfield 95, 3) := dk_180 0 95 (dk_at dksX4_row_3 8 rfl rfl)
theorem dX4_row_79 : decode cX4_row 79 = .ok (.bipush 100, 2) := dk_16 100 (dk_at dksX4_row_3 11 rfl rfl)
theorem dX4_row_81 : decode cX4_row 81 = .ok (.iload_n 1, 1) := dk_27 (dk_at dksX4_row_3 13 rfl rfl)
theorem dX4_row_82 : decode cX4_row 82 = .ok (.imul, 1) := dk_104 (dk_at dksX4_row_3 14 rfl rfl)
theorem dX4_row_83 : decode cX4_row 83 = .ok (.iload 4, 2) := dk_21 4 (dk_at dksX4_row_3 15 rfl rfl)
theorem dX4_row_85 : decode cX4_row 85 = .ok (.iadd, 1) := dk_96 (dk_at dksX4_row_3 17 rfl rfl)
theorem dX4_row_86 : decode cX4_row 86 = .ok (.lconst 0, 1) := dk_9 (dk_at dksX4_row_3 18 rfl rfl)
theorem dX4_row_87 : decode cX4_row 87 = .ok (.lastore, 1) := dk_80 (dk_at dksX4_row_3 19 rfl rfl)
theorem dX4_row_88 : decode cX4_row 88 = .ok (.iinc 4 1, 3) := dk_132 4 1 (dk_at dksX4_row_3 20 rfl rfl)
theorem dX4_row_91 : decode cX4_row 91 = .ok (.goto (-23), 3) := dk_167 255 233 (dk_at dksX4_row_4 0 rfl rfl)
theorem dX4_row_94 : decode cX4_row 94 = .ok (.iconst 0, 1) := dk_3 (dk_at dksX4_row_4 3 rfl rfl)
theorem dX4_row_95 : decode cX4_row 95 = .ok (.ireturn, 1) := dk_172 (dk_at dksX4_row_4 4 rfl rfl)
abbrev cX4_put : ByteArray := prog_21_method_81_code
def yX4_put : MethodName := ⟨RX4, "put", "(III)I"⟩
def dkwX4_put_2 : List UInt8 := [104, 28, 96, 29, 42, 180, 0, 89, 27, 46, 184, 1, 67, 80, 3, 172]
abbrev dktX4_put_2 : List UInt8 := dkwX4_put_2 ++ []
def dkwX4_put_1 : List UInt8 := [180, 0, 92, 27, 46, 4, 100, 133, 184, 0, 108, 154, 0, 6, 16, 243, 172, 42, 180, 0, 95, 16, 100, 27]
abbrev dktX4_put_1 : List UInt8 := dkwX4_put_1 ++ dktX4_put_2
def dkwX4_put_0 : List UInt8 := [42, 3, 181, 0, 102, 42, 27, 182, 1, 56, 54, 4, 21, 4, 156, 0, 6, 21, 4, 172, 28, 133, 9, 42]
abbrev dktX4_put_0 : List UInt8 := dkwX4_put_0 ++ dktX4_put_1
theorem dksX4_put_0 : cX4_put.data.toList.drop 0 = dktX4_put_0 := by decide +kernel
theorem dksX4_put_1 : cX4_put.data.toList.drop 24 = dktX4_put_1 := dk_seg dksX4_put_0 24 rfl rfl
theorem dksX4_put_2 : cX4_put.data.toList.drop 48 = dktX4_put_2 := dk_seg dksX4_put_1 24 rfl rfl
theorem dX4_put_0 : decode cX4_put 0 = .ok (.aload_n 0, 1) := dk_42 (dk_at dksX4_put_0 0 rfl rfl)
theorem dX4_put_1 : decode cX4_put 1 = .ok (.iconst 0, 1) := dk_3 (dk_at dksX4_put_0 1 rfl rfl)
theorem dX4_put_2 : decode cX4_put 2 = .ok (.putfield 102, 3) := dk_181 0 102 (dk_at dksX4_put_0 2 rfl rfl)
theorem dX4_put_5 : decode cX4_put 5 = .ok (.aload_n 0, 1) := dk_42 (dk_at dksX4_put_0 5 rfl rfl)
theorem dX4_put_6 : decode cX4_put 6 = .ok (.iload_n 1, 1) := dk_27 (dk_at dksX4_put_0 6 rfl rfl)
theorem dX4_put_7 : decode cX4_put 7 = .ok (.invokevirtual 312, 3) := dk_182 1 56 (dk_at dksX4_put_0 7 rfl rfl)
theorem dX4_put_10 : decode cX4_put 10 = .ok (.istore 4, 2) := dk_54 4 (dk_at dksX4_put_0 10 rfl rfl)
theorem dX4_put_12 : decode cX4_put 12 = .ok (.iload 4, 2) := dk_21 4 (dk_at dksX4_put_0 12 rfl rfl)
theorem dX4_put_14 : decode cX4_put 14 = .ok (.ifCond .ge 6, 3) := dk_156 0 6 (dk_at dksX4_put_0 14 rfl rfl)
theorem dX4_put_17 : decode cX4_put 17 = .ok (.iload 4, 2) := dk_21 4 (dk_at dksX4_put_0 17 rfl rfl)
theorem dX4_put_19 : decode cX4_put 19 = .ok (.ireturn, 1) := dk_172 (dk_at dksX4_put_0 19 rfl rfl)
theorem dX4_put_20 : decode cX4_put 20 = .ok (.iload_n 2, 1) := dk_28 (dk_at dksX4_put_0 20 rfl rfl)
theorem dX4_put_21 : decode cX4_put 21 = .ok (.i2l, 1) := dk_133 (dk_at dksX4_put_0 21 rfl rfl)
theorem dX4_put_22 : decode cX4_put 22 = .ok (.lconst 0, 1) := dk_9 (dk_at dksX4_put_0 22 rfl rfl)
theorem dX4_put_23 : decode cX4_put 23 = .ok (.aload_n 0, 1) := dk_42 (dk_at dksX4_put_0 23 rfl rfl)
theorem dX4_put_24 : decode cX4_put 24 = .ok (.getfield 92, 3) := dk_180 0 92 (dk_at dksX4_put_1 0 rfl rfl)
theorem dX4_put_27 : decode cX4_put 27 = .ok (.iload_n 1, 1) := dk_27 (dk_at dksX4_put_1 3 rfl rfl)
theorem dX4_put_28 : decode cX4_put 28 = .ok (.iaload, 1) := dk_46 (dk_at dksX4_put_1 4 rfl rfl)
theorem dX4_put_29 : decode cX4_put 29 = .ok (.iconst 1, 1) := dk_4 (dk_at dksX4_put_1 5 rfl rfl)
theorem dX4_put_30 : decode cX4_put 30 = .ok (.isub, 1) := dk_100 (dk_at dksX4_put_1 6 rfl rfl)
theorem dX4_put_31 : decode cX4_put 31 = .ok (.i2l, 1) := dk_133 (dk_at dksX4_put_1 7 rfl rfl)
theorem dX4_put_32 : decode cX4_put 32 = .ok (.invokestatic 108, 3) := dk_184 0 108 (dk_at dksX4_put_1 8 rfl rfl)
theorem dX4_put_35 : decode cX4_put 35 = .ok (.ifCond .ne 6, 3) := dk_154 0 6 (dk_at dksX4_put_1 11 rfl rfl)
theorem dX4_put_38 : decode cX4_put 38 = .ok (.bipush (-13), 2) := dk_16 243 (dk_at dksX4_put_1 14 rfl rfl)
theorem dX4_put_40 : decode cX4_put 40 = .ok (.ireturn, 1) := dk_172 (dk_at dksX4_put_1 16 rfl rfl)
theorem dX4_put_41 : decode cX4_put 41 = .ok (.aload_n 0, 1) := dk_42 (dk_at dksX4_put_1 17 rfl rfl)
theorem dX4_put_42 : decode cX4_put 42 = .ok (.getfield 95, 3) := dk_180 0 95 (dk_at dksX4_put_1 18 rfl rfl)
theorem dX4_put_45 : decode cX4_put 45 = .ok (.bipush 100, 2) := dk_16 100 (dk_at dksX4_put_1 21 rfl rfl)
theorem dX4_put_47 : decode cX4_put 47 = .ok (.iload_n 1, 1) := dk_27 (dk_at dksX4_put_1 23 rfl rfl)
theorem dX4_put_48 : decode cX4_put 48 = .ok (.imul, 1) := dk_104 (dk_at dksX4_put_2 0 rfl rfl)
theorem dX4_put_49 : decode cX4_put 49 = .ok (.iload_n 2, 1) := dk_28 (dk_at dksX4_put_2 1 rfl rfl)
theorem dX4_put_50 : decode cX4_put 50 = .ok (.iadd, 1) := dk_96 (dk_at dksX4_put_2 2 rfl rfl)
theorem dX4_put_51 : decode cX4_put 51 = .ok (.iload_n 3, 1) := dk_29 (dk_at dksX4_put_2 3 rfl rfl)
theorem dX4_put_52 : decode cX4_put 52 = .ok (.aload_n 0, 1) := dk_42 (dk_at dksX4_put_2 4 rfl rfl)
theorem dX4_put_53 : decode cX4_put 53 = .ok (.getfield 89, 3) := dk_180 0 89 (dk_at dksX4_put_2 5 rfl rfl)
theorem dX4_put_56 : decode cX4_put 56 = .ok (.iload_n 1, 1) := dk_27 (dk_at dksX4_put_2 8 rfl rfl)
theorem dX4_put_57 : decode cX4_put 57 = .ok (.iaload, 1) := dk_46 (dk_at dksX4_put_2 9 rfl rfl)
theorem dX4_put_58 : decode cX4_put 58 = .ok (.invokestatic 323, 3) := dk_184 1 67 (dk_at dksX4_put_2 10 rfl rfl)
theorem dX4_put_61 : decode cX4_put 61 = .ok (.lastore, 1) := dk_80 (dk_at dksX4_put_2 13 rfl rfl)
theorem dX4_put_62 : decode cX4_put 62 = .ok (.iconst 0, 1) := dk_3 (dk_at dksX4_put_2 14 rfl rfl)
theorem dX4_put_63 : decode cX4_put 63 = .ok (.ireturn, 1) := dk_172 (dk_at dksX4_put_2 15 rfl rfl)
abbrev cX4_narrowed : ByteArray := prog_21_method_79_code
def yX4_narrowed : MethodName := ⟨RX4, "narrowed", "(II)J"⟩
def dkwX4_narrowed_0 : List UInt8 := [27, 154, 0, 9, 26, 145, 133, 167, 0, 16, 27, 4, 160, 0, 9, 26, 147, 133, 167, 0, 5, 26, 133, 173]
abbrev dktX4_narrowed_0 : List UInt8 := dkwX4_narrowed_0 ++ []
theorem dksX4_narrowed_0 : cX4_narrowed.data.toList.drop 0 = dktX4_narrowed_0 := by decide +kernel
theorem dX4_narrowed_0 : decode cX4_narrowed 0 = .ok (.iload_n 1, 1) := dk_27 (dk_at dksX4_narrowed_0 0 rfl rfl)
theorem dX4_narrowed_1 : decode cX4_narrowed 1 = .ok (.ifCond .ne 9, 3) := dk_154 0 9 (dk_at dksX4_narrowed_0 1 rfl rfl)
theorem dX4_narrowed_4 : decode cX4_narrowed 4 = .ok (.iload_n 0, 1) := dk_26 (dk_at dksX4_narrowed_0 4 rfl rfl)
theorem dX4_narrowed_5 : decode cX4_narrowed 5 = .ok (.i2b, 1) := dk_145 (dk_at dksX4_narrowed_0 5 rfl rfl)
theorem dX4_narrowed_6 : decode cX4_narrowed 6 = .ok (.i2l, 1) := dk_133 (dk_at dksX4_narrowed_0 6 rfl rfl)
theorem dX4_narrowed_7 : decode cX4_narrowed 7 = .ok (.goto 16, 3) := dk_167 0 16 (dk_at dksX4_narrowed_0 7 rfl rfl)
theorem dX4_narrowed_10 : decode cX4_narrowed 10 = .ok (.iload_n 1, 1) := dk_27 (dk_at dksX4_narrowed_0 10 rfl rfl)
theorem dX4_narrowed_11 : decode cX4_narrowed 11 = .ok (.iconst 1, 1) := dk_4 (dk_at dksX4_narrowed_0 11 rfl rfl)
theorem dX4_narrowed_12 : decode cX4_narrowed 12 = .ok (.if_icmp .ne 9, 3) := dk_160 0 9 (dk_at dksX4_narrowed_0 12 rfl rfl)
theorem dX4_narrowed_15 : decode cX4_narrowed 15 = .ok (.iload_n 0, 1) := dk_26 (dk_at dksX4_narrowed_0 15 rfl rfl)
theorem dX4_narrowed_16 : decode cX4_narrowed 16 = .ok (.i2s, 1) := dk_147 (dk_at dksX4_narrowed_0 16 rfl rfl)
theorem dX4_narrowed_17 : decode cX4_narrowed 17 = .ok (.i2l, 1) := dk_133 (dk_at dksX4_narrowed_0 17 rfl rfl)
theorem dX4_narrowed_18 : decode cX4_narrowed 18 = .ok (.goto 5, 3) := dk_167 0 5 (dk_at dksX4_narrowed_0 18 rfl rfl)
theorem dX4_narrowed_21 : decode cX4_narrowed 21 = .ok (.iload_n 0, 1) := dk_26 (dk_at dksX4_narrowed_0 21 rfl rfl)
theorem dX4_narrowed_22 : decode cX4_narrowed 22 = .ok (.i2l, 1) := dk_133 (dk_at dksX4_narrowed_0 22 rfl rfl)
theorem dX4_narrowed_23 : decode cX4_narrowed 23 = .ok (.lreturn, 1) := dk_173 (dk_at dksX4_narrowed_0 23 rfl rfl)
abbrev cX4_element : ByteArray := prog_21_method_82_code
def yX4_element : MethodName := ⟨RX4, "element", "(II)J"⟩
def dkwX4_element_2 : List UInt8 := [180, 0, 102, 158, 0, 7, 9, 167, 0, 14, 42, 180, 0, 95, 16, 100, 27, 104, 28, 96, 47, 173]
abbrev dktX4_element_2 : List UInt8 := dkwX4_element_2 ++ []
def dkwX4_element_1 : List UInt8 := [180, 0, 92, 27, 46, 4, 100, 133, 184, 0, 108, 154, 0, 7, 5, 167, 0, 4, 3, 181, 0, 102, 42]
abbrev dktX4_element_1 : List UInt8 := dkwX4_element_1 ++ dktX4_element_2
def dkwX4_element_0 : List UInt8 := [42, 27, 182, 1, 56, 62, 42, 29, 2, 160, 0, 7, 4, 167, 0, 30, 29, 155, 0, 21, 28, 133, 9, 42]
abbrev dktX4_element_0 : List UInt8 := dkwX4_element_0 ++ dktX4_element_1
theorem dksX4_element_0 : cX4_element.data.toList.drop 0 = dktX4_element_0 := by decide +kernel
theorem dksX4_element_1 : cX4_element.data.toList.drop 24 = dktX4_element_1 := dk_seg dksX4_element_0 24 rfl rfl
theorem dksX4_element_2 : cX4_element.data.toList.drop 47 = dktX4_element_2 := dk_seg dksX4_element_1 23 rfl rfl
theorem dX4_element_0 : decode cX4_element 0 = .ok (.aload_n 0, 1) := dk_42 (dk_at dksX4_element_0 0 rfl rfl)
theorem dX4_element_1 : decode cX4_element 1 = .ok (.iload_n 1, 1) := dk_27 (dk_at dksX4_element_0 1 rfl rfl)
theorem dX4_element_2 : decode cX4_element 2 = .ok (.invokevirtual 312, 3) := dk_182 1 56 (dk_at dksX4_element_0 2 rfl rfl)
theorem dX4_element_5 : decode cX4_element 5 = .ok (.istore_n 3, 1) := dk_62 (dk_at dksX4_element_0 5 rfl rfl)
theorem dX4_element_6 : decode cX4_element 6 = .ok (.aload_n 0, 1) := dk_42 (dk_at dksX4_element_0 6 rfl rfl)
theorem dX4_element_7 : decode cX4_element 7 = .ok (.iload_n 3, 1) := dk_29 (dk_at dksX4_element_0 7 rfl rfl)
theorem dX4_element_8 : decode cX4_element 8 = .ok (.iconst (-1), 1) := dk_2 (dk_at dksX4_element_0 8 rfl rfl)
theorem dX4_element_9 : decode cX4_element 9 = .ok (.if_icmp .ne 7, 3) := dk_160 0 7 (dk_at dksX4_element_0 9 rfl rfl)
theorem dX4_element_12 : decode cX4_element 12 = .ok (.iconst 1, 1) := dk_4 (dk_at dksX4_element_0 12 rfl rfl)
theorem dX4_element_13 : decode cX4_element 13 = .ok (.goto 30, 3) := dk_167 0 30 (dk_at dksX4_element_0 13 rfl rfl)
theorem dX4_element_16 : decode cX4_element 16 = .ok (.iload_n 3, 1) := dk_29 (dk_at dksX4_element_0 16 rfl rfl)
theorem dX4_element_17 : decode cX4_element 17 = .ok (.ifCond .lt 21, 3) := dk_155 0 21 (dk_at dksX4_element_0 17 rfl rfl)
theorem dX4_element_20 : decode cX4_element 20 = .ok (.iload_n 2, 1) := dk_28 (dk_at dksX4_element_0 20 rfl rfl)
theorem dX4_element_21 : decode cX4_element 21 = .ok (.i2l, 1) := dk_133 (dk_at dksX4_element_0 21 rfl rfl)
theorem dX4_element_22 : decode cX4_element 22 = .ok (.lconst 0, 1) := dk_9 (dk_at dksX4_element_0 22 rfl rfl)
theorem dX4_element_23 : decode cX4_element 23 = .ok (.aload_n 0, 1) := dk_42 (dk_at dksX4_element_0 23 rfl rfl)
theorem dX4_element_24 : decode cX4_element 24 = .ok (.getfield 92, 3) := dk_180 0 92 (dk_at dksX4_element_1 0 rfl rfl)
theorem dX4_element_27 : decode cX4_element 27 = .ok (.iload_n 1, 1) := dk_27 (dk_at dksX4_element_1 3 rfl rfl)
theorem dX4_element_28 : decode cX4_element 28 = .ok (.iaload, 1) := dk_46 (dk_at dksX4_element_1 4 rfl rfl)
theorem dX4_element_29 : decode cX4_element 29 = .ok (.iconst 1, 1) := dk_4 (dk_at dksX4_element_1 5 rfl rfl)
theorem dX4_element_30 : decode cX4_element 30 = .ok (.isub, 1) := dk_100 (dk_at dksX4_element_1 6 rfl rfl)
theorem dX4_element_31 : decode cX4_element 31 = .ok (.i2l, 1) := dk_133 (dk_at dksX4_element_1 7 rfl rfl)
theorem dX4_element_32 : decode cX4_element 32 = .ok (.invokestatic 108, 3) := dk_184 0 108 (dk_at dksX4_element_1 8 rfl rfl)
theorem dX4_element_35 : decode cX4_element 35 = .ok (.ifCond .ne 7, 3) := dk_154 0 7 (dk_at dksX4_element_1 11 rfl rfl)
theorem dX4_element_38 : decode cX4_element 38 = .ok (.iconst 2, 1) := dk_5 (dk_at dksX4_element_1 14 rfl rfl)
theorem dX4_element_39 : decode cX4_element 39 = .ok (.goto 4, 3) := dk_167 0 4 (dk_at dksX4_element_1 15 rfl rfl)
theorem dX4_element_42 : decode cX4_element 42 = .ok (.iconst 0, 1) := dk_3 (dk_at dksX4_element_1 18 rfl rfl)
theorem dX4_element_43 : decode cX4_element 43 = .ok (.putfield 102, 3) := dk_181 0 102 (dk_at dksX4_element_1 19 rfl rfl)
theorem dX4_element_46 : decode cX4_element 46 = .ok (.aload_n 0, 1) := dk_42 (dk_at dksX4_element_1 22 rfl rfl)
theorem dX4_element_47 : decode cX4_element 47 = .ok (.getfield 102, 3) := dk_180 0 102 (dk_at dksX4_element_2 0 rfl rfl)
theorem dX4_element_50 : decode cX4_element 50 = .ok (.ifCond .le 7, 3) := dk_158 0 7 (dk_at dksX4_element_2 3 rfl rfl)
theorem dX4_element_53 : decode cX4_element 53 = .ok (.lconst 0, 1) := dk_9 (dk_at dksX4_element_2 6 rfl rfl)
theorem dX4_element_54 : decode cX4_element 54 = .ok (.goto 14, 3) := dk_167 0 14 (dk_at dksX4_element_2 7 rfl rfl)
theorem dX4_element_57 : decode cX4_element 57 = .ok (.aload_n 0, 1) := dk_42 (dk_at dksX4_element_2 10 rfl rfl)
theorem dX4_element_58 : decode cX4_element 58 = .ok (.getfield 95, 3) := dk_180 0 95 (dk_at dksX4_element_2 11 rfl rfl)
theorem dX4_element_61 : decode cX4_element 61 = .ok (.bipush 100, 2) := dk_16 100 (dk_at dksX4_element_2 14 rfl rfl)
theorem dX4_element_63 : decode cX4_element 63 = .ok (.iload_n 1, 1) := dk_27 (dk_at dksX4_element_2 16 rfl rfl)
theorem dX4_element_64 : decode cX4_element 64 = .ok (.imul, 1) := dk_104 (dk_at dksX4_element_2 17 rfl rfl)
theorem dX4_element_65 : decode cX4_element 65 = .ok (.iload_n 2, 1) := dk_28 (dk_at dksX4_element_2 18 rfl rfl)
theorem dX4_element_66 : decode cX4_element 66 = .ok (.iadd, 1) := dk_96 (dk_at dksX4_element_2 19 rfl rfl)
theorem dX4_element_67 : decode cX4_element 67 = .ok (.laload, 1) := dk_47 (dk_at dksX4_element_2 20 rfl rfl)
theorem dX4_element_68 : decode cX4_element 68 = .ok (.lreturn, 1) := dk_173 (dk_at dksX4_element_2 21 rfl rfl)
abbrev cX4_copy : ByteArray := prog_21_method_83_code
def yX4_copy : MethodName := ⟨RX4, "copy", "(IIIII)I"⟩
def dkwX4_copy_9 : List UInt8 := [167, 255, 224, 21, 5, 172]
abbrev dktX4_copy_9 : List UInt8 := dkwX4_copy_9 ++ []
def dkwX4_copy_8 : List UInt8 := [180, 0, 95, 16, 100, 29, 104, 21, 4, 96, 21, 6, 96, 42, 180, 0, 99, 21, 6, 47, 80, 132, 6, 1]
abbrev dktX4_copy_8 : List UInt8 := dkwX4_copy_8 ++ dktX4_copy_9
def dkwX4_copy_7 : List UInt8 := [21, 6, 96, 47, 80, 132, 6, 1, 167, 255, 225, 3, 54, 6, 21, 6, 21, 5, 162, 0, 31, 42]
abbrev dktX4_copy_7 : List UInt8 := dkwX4_copy_7 ++ dktX4_copy_8
def dkwX4_copy_6 : List UInt8 := [21, 6, 21, 5, 162, 0, 30, 42, 180, 0, 99, 21, 6, 42, 180, 0, 95, 16, 100, 27, 104, 28, 96]
abbrev dktX4_copy_6 : List UInt8 := dkwX4_copy_6 ++ dktX4_copy_7
def dkwX4_copy_5 : List UInt8 := [163, 0, 17, 21, 4, 42, 180, 0, 92, 29, 46, 21, 5, 100, 164, 0, 6, 16, 243, 172, 3, 54, 6]
abbrev dktX4_copy_5 : List UInt8 := dkwX4_copy_5 ++ dktX4_copy_6
def dkwX4_copy_4 : List UInt8 := [155, 0, 39, 28, 155, 0, 35, 21, 4, 155, 0, 30, 28, 42, 180, 0, 92, 27, 46, 21, 5, 100]
abbrev dktX4_copy_4 : List UInt8 := dkwX4_copy_4 ++ dktX4_copy_5
def dkwX4_copy_3 : List UInt8 := [160, 0, 18, 42, 180, 0, 89, 27, 46, 42, 180, 0, 89, 29, 46, 159, 0, 6, 16, 244, 172, 21, 5]
abbrev dktX4_copy_3 : List UInt8 := dkwX4_copy_3 ++ dktX4_copy_4
def dkwX4_copy_2 : List UInt8 := [154, 0, 6, 16, 245, 172, 42, 180, 0, 80, 27, 46, 5, 160, 0, 28, 42, 180, 0, 80, 29, 46, 5]
abbrev dktX4_copy_2 : List UInt8 := dkwX4_copy_2 ++ dktX4_copy_3
def dkwX4_copy_1 : List UInt8 := [184, 0, 108, 154, 0, 5, 2, 172, 42, 180, 0, 80, 27, 46, 153, 0, 12, 42, 180, 0, 80, 29, 46]
abbrev dktX4_copy_1 : List UInt8 := dkwX4_copy_1 ++ dktX4_copy_2
def dkwX4_copy_0 : List UInt8 := [42, 3, 181, 0, 102, 27, 133, 9, 20, 1, 7, 184, 0, 108, 153, 0, 15, 29, 133, 9, 20, 1, 7]
abbrev dktX4_copy_0 : List UInt8 := dkwX4_copy_0 ++ dktX4_copy_1
theorem dksX4_copy_0 : cX4_copy.data.toList.drop 0 = dktX4_copy_0 := by decide +kernel
theorem dksX4_copy_1 : cX4_copy.data.toList.drop 23 = dktX4_copy_1 := dk_seg dksX4_copy_0 23 rfl rfl
theorem dksX4_copy_2 : cX4_copy.data.toList.drop 46 = dktX4_copy_2 := dk_seg dksX4_copy_1 23 rfl rfl
theorem dksX4_copy_3 : cX4_copy.data.toList.drop 69 = dktX4_copy_3 := dk_seg dksX4_copy_2 23 rfl rfl
theorem dksX4_copy_4 : cX4_copy.data.toList.drop 92 = dktX4_copy_4 := dk_seg dksX4_copy_3 23 rfl rfl
theorem dksX4_copy_5 : cX4_copy.data.toList.drop 114 = dktX4_copy_5 := dk_seg dksX4_copy_4 22 rfl rfl
theorem dksX4_copy_6 : cX4_copy.data.toList.drop 137 = dktX4_copy_6 := dk_seg dksX4_copy_5 23 rfl rfl
theorem dksX4_copy_7 : cX4_copy.data.toList.drop 160 = dktX4_copy_7 := dk_seg dksX4_copy_6 23 rfl rfl
theorem dksX4_copy_8 : cX4_copy.data.toList.drop 182 = dktX4_copy_8 := dk_seg dksX4_copy_7 22 rfl rfl
theorem dksX4_copy_9 : cX4_copy.data.toList.drop 206 = dktX4_copy_9 := dk_seg dksX4_copy_8 24 rfl rfl
theorem dX4_copy_0 : decode cX4_copy 0 = .ok (.aload_n 0, 1) := dk_42 (dk_at dksX4_copy_0 0 rfl rfl)
theorem dX4_copy_1 : decode cX4_copy 1 = .ok (.iconst 0, 1) := dk_3 (dk_at dksX4_copy_0 1 rfl rfl)
theorem dX4_copy_2 : decode cX4_copy 2 = .ok (.putfield 102, 3) := dk_181 0 102 (dk_at dksX4_copy_0 2 rfl rfl)
theorem dX4_copy_5 : decode cX4_copy 5 = .ok (.iload_n 1, 1) := dk_27 (dk_at dksX4_copy_0 5 rfl rfl)
theorem dX4_copy_6 : decode cX4_copy 6 = .ok (.i2l, 1) := dk_133 (dk_at dksX4_copy_0 6 rfl rfl)
theorem dX4_copy_7 : decode cX4_copy 7 = .ok (.lconst 0, 1) := dk_9 (dk_at dksX4_copy_0 7 rfl rfl)
theorem dX4_copy_8 : decode cX4_copy 8 = .ok (.ldc2_w 263, 3) := dk_20 1 7 (dk_at dksX4_copy_0 8 rfl rfl)
theorem dX4_copy_11 : decode cX4_copy 11 = .ok (.invokestatic 108, 3) := dk_184 0 108 (dk_at dksX4_copy_0 11 rfl rfl)
theorem dX4_copy_14 : decode cX4_copy 14 = .ok (.ifCond .eq 15, 3) := dk_153 0 15 (dk_at dksX4_copy_0 14 rfl rfl)
theorem dX4_copy_17 : decode cX4_copy 17 = .ok (.iload_n 3, 1) := dk_29 (dk_at dksX4_copy_0 17 rfl rfl)
theorem dX4_copy_18 : decode cX4_copy 18 = .ok (.i2l, 1) := dk_133 (dk_at dksX4_copy_0 18 rfl rfl)
theorem dX4_copy_19 : decode cX4_copy 19 = .ok (.lconst 0, 1) := dk_9 (dk_at dksX4_copy_0 19 rfl rfl)
theorem dX4_copy_20 : decode cX4_copy 20 = .ok (.ldc2_w 263, 3) := dk_20 1 7 (dk_at dksX4_copy_0 20 rfl rfl)
theorem dX4_copy_23 : decode cX4_copy 23 = .ok (.invokestatic 108, 3) := dk_184 0 108 (dk_at dksX4_copy_1 0 rfl rfl)
theorem dX4_copy_26 : decode cX4_copy 26 = .ok (.ifCond .ne 5, 3) := dk_154 0 5 (dk_at dksX4_copy_1 3 rfl rfl)
theorem dX4_copy_29 : decode cX4_copy 29 = .ok (.iconst (-1), 1) := dk_2 (dk_at dksX4_copy_1 6 rfl rfl)
theorem dX4_copy_30 : decode cX4_copy 30 = .ok (.ireturn, 1) := dk_172 (dk_at dksX4_copy_1 7 rfl rfl)
theorem dX4_copy_31 : decode cX4_copy 31 = .ok (.aload_n 0, 1) := dk_42 (dk_at dksX4_copy_1 8 rfl rfl)
theorem dX4_copy_32 : decode cX4_copy 32 = .ok (.getfield 80, 3) := dk_180 0 80 (dk_at dksX4_copy_1 9 rfl rfl)
theorem dX4_copy_35 : decode cX4_copy 35 = .ok (.iload_n 1, 1) := dk_27 (dk_at dksX4_copy_1 12 rfl rfl)
theorem dX4_copy_36 : decode cX4_copy 36 = .ok (.iaload, 1) := dk_46 (dk_at dksX4_copy_1 13 rfl rfl)
theorem dX4_copy_37 : decode cX4_copy 37 = .ok (.ifCond .eq 12, 3) := dk_153 0 12 (dk_at dksX4_copy_1 14 rfl rfl)
theorem dX4_copy_40 : decode cX4_copy 40 = .ok (.aload_n 0, 1) := dk_42 (dk_at dksX4_copy_1 17 rfl rfl)
theorem dX4_copy_41 : decode cX4_copy 41 = .ok (.getfield 80, 3) := dk_180 0 80 (dk_at dksX4_copy_1 18 rfl rfl)
theorem dX4_copy_44 : decode cX4_copy 44 = .ok (.iload_n 3, 1) := dk_29 (dk_at dksX4_copy_1 21 rfl rfl)
theorem dX4_copy_45 : decode cX4_copy 45 = .ok (.iaload, 1) := dk_46 (dk_at dksX4_copy_1 22 rfl rfl)
theorem dX4_copy_46 : decode cX4_copy 46 = .ok (.ifCond .ne 6, 3) := dk_154 0 6 (dk_at dksX4_copy_2 0 rfl rfl)
theorem dX4_copy_49 : decode cX4_copy 49 = .ok (.bipush (-11), 2) := dk_16 245 (dk_at dksX4_copy_2 3 rfl rfl)
theorem dX4_copy_51 : decode cX4_copy 51 = .ok (.ireturn, 1) := dk_172 (dk_at dksX4_copy_2 5 rfl rfl)
theorem dX4_copy_52 : decode cX4_copy 52 = .ok (.aload_n 0, 1) := dk_42 (dk_at dksX4_copy_2 6 rfl rfl)
theorem dX4_copy_53 : decode cX4_copy 53 = .ok (.getfield 80, 3) := dk_180 0 80 (dk_at dksX4_copy_2 7 rfl rfl)
theorem dX4_copy_56 : decode cX4_copy 56 = .ok (.iload_n 1, 1) := dk_27 (dk_at dksX4_copy_2 10 rfl rfl)
theorem dX4_copy_57 : decode cX4_copy 57 = .ok (.iaload, 1) := dk_46 (dk_at dksX4_copy_2 11 rfl rfl)
theorem dX4_copy_58 : decode cX4_copy 58 = .ok (.iconst 2, 1) := dk_5 (dk_at dksX4_copy_2 12 rfl rfl)
theorem dX4_copy_59 : decode cX4_copy 59 = .ok (.if_icmp .ne 28, 3) := dk_160 0 28 (dk_at dksX4_copy_2 13 rfl rfl)
theorem dX4_copy_62 : decode cX4_copy 62 = .ok (.aload_n 0, 1) := dk_42 (dk_at dksX4_copy_2 16 rfl rfl)
theorem dX4_copy_63 : decode cX4_copy 63 = .ok (.getfield 80, 3) := dk_180 0 80 (dk_at dksX4_copy_2 17 rfl rfl)
theorem dX4_copy_66 : decode cX4_copy 66 = .ok (.iload_n 3, 1) := dk_29 (dk_at dksX4_copy_2 20 rfl rfl)
theorem dX4_copy_67 : decode cX4_copy 67 = .ok (.iaload, 1) := dk_46 (dk_at dksX4_copy_2 21 rfl rfl)
theorem dX4_copy_68 : decode cX4_copy 68 = .ok (.iconst 2, 1) := dk_5 (dk_at dksX4_copy_2 22 rfl rfl)
theorem dX4_copy_69 : decode cX4_copy 69 = .ok (.if_icmp .ne 18, 3) := dk_160 0 18 (dk_at dksX4_copy_3 0 rfl rfl)
theorem dX4_copy_72 : decode cX4_copy 72 = .ok (.aload_n 0, 1) := dk_42 (dk_at dksX4_copy_3 3 rfl rfl)
theorem dX4_copy_73 : decode cX4_copy 73 = .ok (.getfield 89, 3) := dk_180 0 89 (dk_at dksX4_copy_3 4 rfl rfl)
theorem dX4_copy_76 : decode cX4_copy 76 = .ok (.iload_n 1, 1) := dk_27 (dk_at dksX4_copy_3 7 rfl rfl)
theorem dX4_copy_77 : decode cX4_copy 77 = .ok (.iaload, 1) := dk_46 (dk_at dksX4_copy_3 8 rfl rfl)
theorem dX4_copy_78 : decode cX4_copy 78 = .ok (.aload_n 0, 1) := dk_42 (dk_at dksX4_copy_3 9 rfl rfl)
theorem dX4_copy_79 : decode cX4_copy 79 = .ok (.getfield 89, 3) := dk_180 0 89 (dk_at dksX4_copy_3 10 rfl rfl)
theorem dX4_copy_82 : decode cX4_copy 82 = .ok (.iload_n 3, 1) := dk_29 (dk_at dksX4_copy_3 13 rfl rfl)
theorem dX4_copy_83 : decode cX4_copy 83 = .ok (.iaload, 1) := dk_46 (dk_at dksX4_copy_3 14 rfl rfl)
theorem dX4_copy_84 : decode cX4_copy 84 = .ok (.if_icmp .eq 6, 3) := dk_159 0 6 (dk_at dksX4_copy_3 15 rfl rfl)
theorem dX4_copy_87 : decode cX4_copy 87 = .ok (.bipush (-12), 2) := dk_16 244 (dk_at dksX4_copy_3 18 rfl rfl)
theorem dX4_copy_89 : decode cX4_copy 89 = .ok (.ireturn, 1) := dk_172 (dk_at dksX4_copy_3 20 rfl rfl)
theorem dX4_copy_90 : decode cX4_copy 90 = .ok (.iload 5, 2) := dk_21 5 (dk_at dksX4_copy_3 21 rfl rfl)
theorem dX4_copy_92 : decode cX4_copy 92 = .ok (.ifCond .lt 39, 3) := dk_155 0 39 (dk_at dksX4_copy_4 0 rfl rfl)
theorem dX4_copy_95 : decode cX4_copy 95 = .ok (.iload_n 2, 1) := dk_28 (dk_at dksX4_copy_4 3 rfl rfl)
theorem dX4_copy_96 : decode cX4_copy 96 = .ok (.ifCond .lt 35, 3) := dk_155 0 35 (dk_at dksX4_copy_4 4 rfl rfl)
theorem dX4_copy_99 : decode cX4_copy 99 = .ok (.iload 4, 2) := dk_21 4 (dk_at dksX4_copy_4 7 rfl rfl)
theorem dX4_copy_101 : decode cX4_copy 101 = .ok (.ifCond .lt 30, 3) := dk_155 0 30 (dk_at dksX4_copy_4 9 rfl rfl)
theorem dX4_copy_104 : decode cX4_copy 104 = .ok (.iload_n 2, 1) := dk_28 (dk_at dksX4_copy_4 12 rfl rfl)
theorem dX4_copy_105 : decode cX4_copy 105 = .ok (.aload_n 0, 1) := dk_42 (dk_at dksX4_copy_4 13 rfl rfl)
theorem dX4_copy_106 : decode cX4_copy 106 = .ok (.getfield 92, 3) := dk_180 0 92 (dk_at dksX4_copy_4 14 rfl rfl)
theorem dX4_copy_109 : decode cX4_copy 109 = .ok (.iload_n 1, 1) := dk_27 (dk_at dksX4_copy_4 17 rfl rfl)
theorem dX4_copy_110 : decode cX4_copy 110 = .ok (.iaload, 1) := dk_46 (dk_at dksX4_copy_4 18 rfl rfl)
theorem dX4_copy_111 : decode cX4_copy 111 = .ok (.iload 5, 2) := dk_21 5 (dk_at dksX4_copy_4 19 rfl rfl)
theorem dX4_copy_113 : decode cX4_copy 113 = .ok (.isub, 1) := dk_100 (dk_at dksX4_copy_4 21 rfl rfl)
theorem dX4_copy_114 : decode cX4_copy 114 = .ok (.if_icmp .gt 17, 3) := dk_163 0 17 (dk_at dksX4_copy_5 0 rfl rfl)
theorem dX4_copy_117 : decode cX4_copy 117 = .ok (.iload 4, 2) := dk_21 4 (dk_at dksX4_copy_5 3 rfl rfl)
theorem dX4_copy_119 : decode cX4_copy 119 = .ok (.aload_n 0, 1) := dk_42 (dk_at dksX4_copy_5 5 rfl rfl)
theorem dX4_copy_120 : decode cX4_copy 120 = .ok (.getfield 92, 3) := dk_180 0 92 (dk_at dksX4_copy_5 6 rfl rfl)
theorem dX4_copy_123 : decode cX4_copy 123 = .ok (.iload_n 3, 1) := dk_29 (dk_at dksX4_copy_5 9 rfl rfl)
theorem dX4_copy_124 : decode cX4_copy 124 = .ok (.iaload, 1) := dk_46 (dk_at dksX4_copy_5 10 rfl rfl)
theorem dX4_copy_125 : decode cX4_copy 125 = .ok (.iload 5, 2) := dk_21 5 (dk_at dksX4_copy_5 11 rfl rfl)
theorem dX4_copy_127 : decode cX4_copy 127 = .ok (.isub, 1) := dk_100 (dk_at dksX4_copy_5 13 rfl rfl)
theorem dX4_copy_128 : decode cX4_copy 128 = .ok (.if_icmp .le 6, 3) := dk_164 0 6 (dk_at dksX4_copy_5 14 rfl rfl)
theorem dX4_copy_131 : decode cX4_copy 131 = .ok (.bipush (-13), 2) := dk_16 243 (dk_at dksX4_copy_5 17 rfl rfl)
theorem dX4_copy_133 : decode cX4_copy 133 = .ok (.ireturn, 1) := dk_172 (dk_at dksX4_copy_5 19 rfl rfl)
theorem dX4_copy_134 : decode cX4_copy 134 = .ok (.iconst 0, 1) := dk_3 (dk_at dksX4_copy_5 20 rfl rfl)
theorem dX4_copy_135 : decode cX4_copy 135 = .ok (.istore 6, 2) := dk_54 6 (dk_at dksX4_copy_5 21 rfl rfl)
theorem dX4_copy_137 : decode cX4_copy 137 = .ok (.iload 6, 2) := dk_21 6 (dk_at dksX4_copy_6 0 rfl rfl)
theorem dX4_copy_139 : decode cX4_copy 139 = .ok (.iload 5, 2) := dk_21 5 (dk_at dksX4_copy_6 2 rfl rfl)
theorem dX4_copy_141 : decode cX4_copy 141 = .ok (.if_icmp .ge 30, 3) := dk_162 0 30 (dk_at dksX4_copy_6 4 rfl rfl)
theorem dX4_copy_144 : decode cX4_copy 144 = .ok (.aload_n 0, 1) := dk_42 (dk_at dksX4_copy_6 7 rfl rfl)
theorem dX4_copy_145 : decode cX4_copy 145 = .ok (.getfield 99, 3) := dk_180 0 99 (dk_at dksX4_copy_6 8 rfl rfl)
theorem dX4_copy_148 : decode cX4_copy 148 = .ok (.iload 6, 2) := dk_21 6 (dk_at dksX4_copy_6 11 rfl rfl)
theorem dX4_copy_150 : decode cX4_copy 150 = .ok (.aload_n 0, 1) := dk_42 (dk_at dksX4_copy_6 13 rfl rfl)
theorem dX4_copy_151 : decode cX4_copy 151 = .ok (.getfield 95, 3) := dk_180 0 95 (dk_at dksX4_copy_6 14 rfl rfl)
theorem dX4_copy_154 : decode cX4_copy 154 = .ok (.bipush 100, 2) := dk_16 100 (dk_at dksX4_copy_6 17 rfl rfl)
theorem dX4_copy_156 : decode cX4_copy 156 = .ok (.iload_n 1, 1) := dk_27 (dk_at dksX4_copy_6 19 rfl rfl)
theorem dX4_copy_157 : decode cX4_copy 157 = .ok (.imul, 1) := dk_104 (dk_at dksX4_copy_6 20 rfl rfl)
theorem dX4_copy_158 : decode cX4_copy 158 = .ok (.iload_n 2, 1) := dk_28 (dk_at dksX4_copy_6 21 rfl rfl)
theorem dX4_copy_159 : decode cX4_copy 159 = .ok (.iadd, 1) := dk_96 (dk_at dksX4_copy_6 22 rfl rfl)
theorem dX4_copy_160 : decode cX4_copy 160 = .ok (.iload 6, 2) := dk_21 6 (dk_at dksX4_copy_7 0 rfl rfl)
theorem dX4_copy_162 : decode cX4_copy 162 = .ok (.iadd, 1) := dk_96 (dk_at dksX4_copy_7 2 rfl rfl)
theorem dX4_copy_163 : decode cX4_copy 163 = .ok (.laload, 1) := dk_47 (dk_at dksX4_copy_7 3 rfl rfl)
theorem dX4_copy_164 : decode cX4_copy 164 = .ok (.lastore, 1) := dk_80 (dk_at dksX4_copy_7 4 rfl rfl)
theorem dX4_copy_165 : decode cX4_copy 165 = .ok (.iinc 6 1, 3) := dk_132 6 1 (dk_at dksX4_copy_7 5 rfl rfl)
theorem dX4_copy_168 : decode cX4_copy 168 = .ok (.goto (-31), 3) := dk_167 255 225 (dk_at dksX4_copy_7 8 rfl rfl)
theorem dX4_copy_171 : decode cX4_copy 171 = .ok (.iconst 0, 1) := dk_3 (dk_at dksX4_copy_7 11 rfl rfl)
theorem dX4_copy_172 : decode cX4_copy 172 = .ok (.istore 6, 2) := dk_54 6 (dk_at dksX4_copy_7 12 rfl rfl)
theorem dX4_copy_174 : decode cX4_copy 174 = .ok (.iload 6, 2) := dk_21 6 (dk_at dksX4_copy_7 14 rfl rfl)
theorem dX4_copy_176 : decode cX4_copy 176 = .ok (.iload 5, 2) := dk_21 5 (dk_at dksX4_copy_7 16 rfl rfl)
theorem dX4_copy_178 : decode cX4_copy 178 = .ok (.if_icmp .ge 31, 3) := dk_162 0 31 (dk_at dksX4_copy_7 18 rfl rfl)
theorem dX4_copy_181 : decode cX4_copy 181 = .ok (.aload_n 0, 1) := dk_42 (dk_at dksX4_copy_7 21 rfl rfl)
theorem dX4_copy_182 : decode cX4_copy 182 = .ok (.getfield 95, 3) := dk_180 0 95 (dk_at dksX4_copy_8 0 rfl rfl)
theorem dX4_copy_185 : decode cX4_copy 185 = .ok (.bipush 100, 2) := dk_16 100 (dk_at dksX4_copy_8 3 rfl rfl)
theorem dX4_copy_187 : decode cX4_copy 187 = .ok (.iload_n 3, 1) := dk_29 (dk_at dksX4_copy_8 5 rfl rfl)
theorem dX4_copy_188 : decode cX4_copy 188 = .ok (.imul, 1) := dk_104 (dk_at dksX4_copy_8 6 rfl rfl)
theorem dX4_copy_189 : decode cX4_copy 189 = .ok (.iload 4, 2) := dk_21 4 (dk_at dksX4_copy_8 7 rfl rfl)
theorem dX4_copy_191 : decode cX4_copy 191 = .ok (.iadd, 1) := dk_96 (dk_at dksX4_copy_8 9 rfl rfl)
theorem dX4_copy_192 : decode cX4_copy 192 = .ok (.iload 6, 2) := dk_21 6 (dk_at dksX4_copy_8 10 rfl rfl)
theorem dX4_copy_194 : decode cX4_copy 194 = .ok (.iadd, 1) := dk_96 (dk_at dksX4_copy_8 12 rfl rfl)
theorem dX4_copy_195 : decode cX4_copy 195 = .ok (.aload_n 0, 1) := dk_42 (dk_at dksX4_copy_8 13 rfl rfl)
theorem dX4_copy_196 : decode cX4_copy 196 = .ok (.getfield 99, 3) := dk_180 0 99 (dk_at dksX4_copy_8 14 rfl rfl)
theorem dX4_copy_199 : decode cX4_copy 199 = .ok (.iload 6, 2) := dk_21 6 (dk_at dksX4_copy_8 17 rfl rfl)
theorem dX4_copy_201 : decode cX4_copy 201 = .ok (.laload, 1) := dk_47 (dk_at dksX4_copy_8 19 rfl rfl)
theorem dX4_copy_202 : decode cX4_copy 202 = .ok (.lastore, 1) := dk_80 (dk_at dksX4_copy_8 20 rfl rfl)
theorem dX4_copy_203 : decode cX4_copy 203 = .ok (.iinc 6 1, 3) := dk_132 6 1 (dk_at dksX4_copy_8 21 rfl rfl)
theorem dX4_copy_206 : decode cX4_copy 206 = .ok (.goto (-32), 3) := dk_167 255 224 (dk_at dksX4_copy_9 0 rfl rfl)
theorem dX4_copy_209 : decode cX4_copy 209 = .ok (.iload 5, 2) := dk_21 5 (dk_at dksX4_copy_9 3 rfl rfl)
theorem dX4_copy_211 : decode cX4_copy 211 = .ok (.ireturn, 1) := dk_172 (dk_at dksX4_copy_9 5 rfl rfl)
abbrev cX4_cost : ByteArray := prog_21_method_85_code
def yX4_cost : MethodName := ⟨RX4, "cost", "(I)I"⟩
def dkwX4_cost_1 : List UInt8 := [180, 0, 83, 27, 46, 42, 180, 0, 86, 27, 46, 184, 1, 71, 172]
abbrev dktX4_cost_1 : List UInt8 := dkwX4_cost_1 ++ []
def dkwX4_cost_0 : List UInt8 := [42, 3, 181, 0, 102, 42, 27, 182, 1, 12, 156, 0, 11, 42, 27, 182, 1, 12, 167, 0, 18, 42]
abbrev dktX4_cost_0 : List UInt8 := dkwX4_cost_0 ++ dktX4_cost_1
theorem dksX4_cost_0 : cX4_cost.data.toList.drop 0 = dktX4_cost_0 := by decide +kernel
theorem dksX4_cost_1 : cX4_cost.data.toList.drop 22 = dktX4_cost_1 := dk_seg dksX4_cost_0 22 rfl rfl
theorem dX4_cost_0 : decode cX4_cost 0 = .ok (.aload_n 0, 1) := dk_42 (dk_at dksX4_cost_0 0 rfl rfl)
theorem dX4_cost_1 : decode cX4_cost 1 = .ok (.iconst 0, 1) := dk_3 (dk_at dksX4_cost_0 1 rfl rfl)
theorem dX4_cost_2 : decode cX4_cost 2 = .ok (.putfield 102, 3) := dk_181 0 102 (dk_at dksX4_cost_0 2 rfl rfl)
theorem dX4_cost_5 : decode cX4_cost 5 = .ok (.aload_n 0, 1) := dk_42 (dk_at dksX4_cost_0 5 rfl rfl)
theorem dX4_cost_6 : decode cX4_cost 6 = .ok (.iload_n 1, 1) := dk_27 (dk_at dksX4_cost_0 6 rfl rfl)
theorem dX4_cost_7 : decode cX4_cost 7 = .ok (.invokevirtual 268, 3) := dk_182 1 12 (dk_at dksX4_cost_0 7 rfl rfl)
theorem dX4_cost_10 : decode cX4_cost 10 = .ok (.ifCond .ge 11, 3) := dk_156 0 11 (dk_at dksX4_cost_0 10 rfl rfl)
theorem dX4_cost_13 : decode cX4_cost 13 = .ok (.aload_n 0, 1) := dk_42 (dk_at dksX4_cost_0 13 rfl rfl)
theorem dX4_cost_14 : decode cX4_cost 14 = .ok (.iload_n 1, 1) := dk_27 (dk_at dksX4_cost_0 14 rfl rfl)
theorem dX4_cost_15 : decode cX4_cost 15 = .ok (.invokevirtual 268, 3) := dk_182 1 12 (dk_at dksX4_cost_0 15 rfl rfl)
theorem dX4_cost_18 : decode cX4_cost 18 = .ok (.goto 18, 3) := dk_167 0 18 (dk_at dksX4_cost_0 18 rfl rfl)
theorem dX4_cost_21 : decode cX4_cost 21 = .ok (.aload_n 0, 1) := dk_42 (dk_at dksX4_cost_0 21 rfl rfl)
theorem dX4_cost_22 : decode cX4_cost 22 = .ok (.getfield 83, 3) := dk_180 0 83 (dk_at dksX4_cost_1 0 rfl rfl)
theorem dX4_cost_25 : decode cX4_cost 25 = .ok (.iload_n 1, 1) := dk_27 (dk_at dksX4_cost_1 3 rfl rfl)
theorem dX4_cost_26 : decode cX4_cost 26 = .ok (.iaload, 1) := dk_46 (dk_at dksX4_cost_1 4 rfl rfl)
theorem dX4_cost_27 : decode cX4_cost 27 = .ok (.aload_n 0, 1) := dk_42 (dk_at dksX4_cost_1 5 rfl rfl)
theorem dX4_cost_28 : decode cX4_cost 28 = .ok (.getfield 86, 3) := dk_180 0 86 (dk_at dksX4_cost_1 6 rfl rfl)
theorem dX4_cost_31 : decode cX4_cost 31 = .ok (.iload_n 1, 1) := dk_27 (dk_at dksX4_cost_1 9 rfl rfl)
theorem dX4_cost_32 : decode cX4_cost 32 = .ok (.iaload, 1) := dk_46 (dk_at dksX4_cost_1 10 rfl rfl)
theorem dX4_cost_33 : decode cX4_cost 33 = .ok (.invokestatic 327, 3) := dk_184 1 71 (dk_at dksX4_cost_1 11 rfl rfl)
theorem dX4_cost_36 : decode cX4_cost 36 = .ok (.ireturn, 1) := dk_172 (dk_at dksX4_cost_1 14 rfl rfl)
abbrev cX4_costOf : ByteArray := prog_21_method_84_code
def yX4_costOf : MethodName := ⟨RX4, "costOf", "(II)I"⟩
def dkwX4_costOf_3 : List UInt8 := [104, 172]
abbrev dktX4_costOf_3 : List UInt8 := dkwX4_costOf_3 ++ []
def dkwX4_costOf_2 : List UInt8 := [5, 172, 5, 27, 96, 172, 6, 172, 7, 172, 16, 6, 172, 16, 11, 27, 96, 172, 6, 172, 7, 27, 4, 96]
abbrev dktX4_costOf_2 : List UInt8 := dkwX4_costOf_2 ++ dktX4_costOf_3
def dkwX4_costOf_1 : List UInt8 := [170, 0, 0, 0, 0, 0, 63, 0, 0, 0, 0, 0, 0, 0, 6, 0, 0, 0, 43, 0, 0, 0, 45, 0, 0, 0, 49, 0, 0, 0, 51, 0, 0, 0, 53, 0, 0, 0, 56, 0, 0, 0, 61]
abbrev dktX4_costOf_1 : List UInt8 := dkwX4_costOf_1 ++ dktX4_costOf_2
def dkwX4_costOf_0 : List UInt8 := [26]
abbrev dktX4_costOf_0 : List UInt8 := dkwX4_costOf_0 ++ dktX4_costOf_1
theorem dksX4_costOf_0 : cX4_costOf.data.toList.drop 0 = dktX4_costOf_0 := by decide +kernel
theorem dksX4_costOf_1 : cX4_costOf.data.toList.drop 1 = dktX4_costOf_1 := dk_seg dksX4_costOf_0 1 rfl rfl
theorem dksX4_costOf_2 : cX4_costOf.data.toList.drop 44 = dktX4_costOf_2 := dk_seg dksX4_costOf_1 43 rfl rfl
theorem dksX4_costOf_3 : cX4_costOf.data.toList.drop 68 = dktX4_costOf_3 := dk_seg dksX4_costOf_2 24 rfl rfl
theorem dX4_costOf_0 : decode cX4_costOf 0 = .ok (.iload_n 0, 1) := dk_26 (dk_at dksX4_costOf_0 0 rfl rfl)
theorem dX4_costOf_1 : decode cX4_costOf 1 = .ok (.tableswitch 63 0 6 #[43, 45, 49, 51, 53, 56, 61], 43) := by decide +kernel
theorem dX4_costOf_44 : decode cX4_costOf 44 = .ok (.iconst 2, 1) := dk_5 (dk_at dksX4_costOf_2 0 rfl rfl)
theorem dX4_costOf_45 : decode cX4_costOf 45 = .ok (.ireturn, 1) := dk_172 (dk_at dksX4_costOf_2 1 rfl rfl)
theorem dX4_costOf_46 : decode cX4_costOf 46 = .ok (.iconst 2, 1) := dk_5 (dk_at dksX4_costOf_2 2 rfl rfl)
theorem dX4_costOf_47 : decode cX4_costOf 47 = .ok (.iload_n 1, 1) := dk_27 (dk_at dksX4_costOf_2 3 rfl rfl)
theorem dX4_costOf_48 : decode cX4_costOf 48 = .ok (.iadd, 1) := dk_96 (dk_at dksX4_costOf_2 4 rfl rfl)
theorem dX4_costOf_49 : decode cX4_costOf 49 = .ok (.ireturn, 1) := dk_172 (dk_at dksX4_costOf_2 5 rfl rfl)
theorem dX4_costOf_50 : decode cX4_costOf 50 = .ok (.iconst 3, 1) := dk_6 (dk_at dksX4_costOf_2 6 rfl rfl)
theorem dX4_costOf_51 : decode cX4_costOf 51 = .ok (.ireturn, 1) := dk_172 (dk_at dksX4_costOf_2 7 rfl rfl)
theorem dX4_costOf_52 : decode cX4_costOf 52 = .ok (.iconst 4, 1) := dk_7 (dk_at dksX4_costOf_2 8 rfl rfl)
theorem dX4_costOf_53 : decode cX4_costOf 53 = .ok (.ireturn, 1) := dk_172 (dk_at dksX4_costOf_2 9 rfl rfl)
theorem dX4_costOf_54 : decode cX4_costOf 54 = .ok (.bipush 6, 2) := dk_16 6 (dk_at dksX4_costOf_2 10 rfl rfl)
theorem dX4_costOf_56 : decode cX4_costOf 56 = .ok (.ireturn, 1) := dk_172 (dk_at dksX4_costOf_2 12 rfl rfl)
theorem dX4_costOf_57 : decode cX4_costOf 57 = .ok (.bipush 11, 2) := dk_16 11 (dk_at dksX4_costOf_2 13 rfl rfl)
theorem dX4_costOf_59 : decode cX4_costOf 59 = .ok (.iload_n 1, 1) := dk_27 (dk_at dksX4_costOf_2 15 rfl rfl)
theorem dX4_costOf_60 : decode cX4_costOf 60 = .ok (.iadd, 1) := dk_96 (dk_at dksX4_costOf_2 16 rfl rfl)
theorem dX4_costOf_61 : decode cX4_costOf 61 = .ok (.ireturn, 1) := dk_172 (dk_at dksX4_costOf_2 17 rfl rfl)
theorem dX4_costOf_62 : decode cX4_costOf 62 = .ok (.iconst 3, 1) := dk_6 (dk_at dksX4_costOf_2 18 rfl rfl)
theorem dX4_costOf_63 : decode cX4_costOf 63 = .ok (.ireturn, 1) := dk_172 (dk_at dksX4_costOf_2 19 rfl rfl)
theorem dX4_costOf_64 : decode cX4_costOf 64 = .ok (.iconst 4, 1) := dk_7 (dk_at dksX4_costOf_2 20 rfl rfl)
theorem dX4_costOf_65 : decode cX4_costOf 65 = .ok (.iload_n 1, 1) := dk_27 (dk_at dksX4_costOf_2 21 rfl rfl)
theorem dX4_costOf_66 : decode cX4_costOf 66 = .ok (.iconst 1, 1) := dk_4 (dk_at dksX4_costOf_2 22 rfl rfl)
theorem dX4_costOf_67 : decode cX4_costOf 67 = .ok (.iadd, 1) := dk_96 (dk_at dksX4_costOf_2 23 rfl rfl)
theorem dX4_costOf_68 : decode cX4_costOf 68 = .ok (.imul, 1) := dk_104 (dk_at dksX4_costOf_3 0 rfl rfl)
theorem dX4_costOf_69 : decode cX4_costOf 69 = .ok (.ireturn, 1) := dk_172 (dk_at dksX4_costOf_3 1 rfl rfl)
abbrev cX4_toss : ByteArray := prog_21_method_86_code
def yX4_toss : MethodName := ⟨RX4, "toss", "(I)I"⟩
def dkwX4_toss_3 : List UInt8 := [167, 0, 4, 29, 172]
abbrev dktX4_toss_3 : List UInt8 := dkwX4_toss_3 ++ []
def dkwX4_toss_2 : List UInt8 := [160, 0, 10, 16, 100, 29, 96, 167, 0, 21, 28, 8, 160, 0, 15, 17, 0, 200, 28, 29, 184, 1, 71, 96]
abbrev dktX4_toss_2 : List UInt8 := dkwX4_toss_2 ++ dktX4_toss_3
def dkwX4_toss_1 : List UInt8 := [46, 61, 42, 180, 0, 86, 27, 46, 62, 28, 7, 159, 0, 7, 29, 154, 0, 6, 16, 241, 172, 28, 6]
abbrev dktX4_toss_1 : List UInt8 := dkwX4_toss_1 ++ dktX4_toss_2
def dkwX4_toss_0 : List UInt8 := [42, 3, 181, 0, 102, 42, 27, 182, 1, 12, 156, 0, 9, 42, 27, 182, 1, 12, 172, 42, 180, 0, 83, 27]
abbrev dktX4_toss_0 : List UInt8 := dkwX4_toss_0 ++ dktX4_toss_1
theorem dksX4_toss_0 : cX4_toss.data.toList.drop 0 = dktX4_toss_0 := by decide +kernel
theorem dksX4_toss_1 : cX4_toss.data.toList.drop 24 = dktX4_toss_1 := dk_seg dksX4_toss_0 24 rfl rfl
theorem dksX4_toss_2 : cX4_toss.data.toList.drop 47 = dktX4_toss_2 := dk_seg dksX4_toss_1 23 rfl rfl
theorem dksX4_toss_3 : cX4_toss.data.toList.drop 71 = dktX4_toss_3 := dk_seg dksX4_toss_2 24 rfl rfl
theorem dX4_toss_0 : decode cX4_toss 0 = .ok (.aload_n 0, 1) := dk_42 (dk_at dksX4_toss_0 0 rfl rfl)
theorem dX4_toss_1 : decode cX4_toss 1 = .ok (.iconst 0, 1) := dk_3 (dk_at dksX4_toss_0 1 rfl rfl)
theorem dX4_toss_2 : decode cX4_toss 2 = .ok (.putfield 102, 3) := dk_181 0 102 (dk_at dksX4_toss_0 2 rfl rfl)
theorem dX4_toss_5 : decode cX4_toss 5 = .ok (.aload_n 0, 1) := dk_42 (dk_at dksX4_toss_0 5 rfl rfl)
theorem dX4_toss_6 : decode cX4_toss 6 = .ok (.iload_n 1, 1) := dk_27 (dk_at dksX4_toss_0 6 rfl rfl)
theorem dX4_toss_7 : decode cX4_toss 7 = .ok (.invokevirtual 268, 3) := dk_182 1 12 (dk_at dksX4_toss_0 7 rfl rfl)
theorem dX4_toss_10 : decode cX4_toss 10 = .ok (.ifCond .ge 9, 3) := dk_156 0 9 (dk_at dksX4_toss_0 10 rfl rfl)
theorem dX4_toss_13 : decode cX4_toss 13 = .ok (.aload_n 0, 1) := dk_42 (dk_at dksX4_toss_0 13 rfl rfl)
theorem dX4_toss_14 : decode cX4_toss 14 = .ok (.iload_n 1, 1) := dk_27 (dk_at dksX4_toss_0 14 rfl rfl)
theorem dX4_toss_15 : decode cX4_toss 15 = .ok (.invokevirtual 268, 3) := dk_182 1 12 (dk_at dksX4_toss_0 15 rfl rfl)
theorem dX4_toss_18 : decode cX4_toss 18 = .ok (.ireturn, 1) := dk_172 (dk_at dksX4_toss_0 18 rfl rfl)
theorem dX4_toss_19 : decode cX4_toss 19 = .ok (.aload_n 0, 1) := dk_42 (dk_at dksX4_toss_0 19 rfl rfl)
theorem dX4_toss_20 : decode cX4_toss 20 = .ok (.getfield 83, 3) := dk_180 0 83 (dk_at dksX4_toss_0 20 rfl rfl)
theorem dX4_toss_23 : decode cX4_toss 23 = .ok (.iload_n 1, 1) := dk_27 (dk_at dksX4_toss_0 23 rfl rfl)
theorem dX4_toss_24 : decode cX4_toss 24 = .ok (.iaload, 1) := dk_46 (dk_at dksX4_toss_1 0 rfl rfl)
theorem dX4_toss_25 : decode cX4_toss 25 = .ok (.istore_n 2, 1) := dk_61 (dk_at dksX4_toss_1 1 rfl rfl)
theorem dX4_toss_26 : decode cX4_toss 26 = .ok (.aload_n 0, 1) := dk_42 (dk_at dksX4_toss_1 2 rfl rfl)
theorem dX4_toss_27 : decode cX4_toss 27 = .ok (.getfield 86, 3) := dk_180 0 86 (dk_at dksX4_toss_1 3 rfl rfl)
theorem dX4_toss_30 : decode cX4_toss 30 = .ok (.iload_n 1, 1) := dk_27 (dk_at dksX4_toss_1 6 rfl rfl)
theorem dX4_toss_31 : decode cX4_toss 31 = .ok (.iaload, 1) := dk_46 (dk_at dksX4_toss_1 7 rfl rfl)
theorem dX4_toss_32 : decode cX4_toss 32 = .ok (.istore_n 3, 1) := dk_62 (dk_at dksX4_toss_1 8 rfl rfl)
theorem dX4_toss_33 : decode cX4_toss 33 = .ok (.iload_n 2, 1) := dk_28 (dk_at dksX4_toss_1 9 rfl rfl)
theorem dX4_toss_34 : decode cX4_toss 34 = .ok (.iconst 4, 1) := dk_7 (dk_at dksX4_toss_1 10 rfl rfl)
theorem dX4_toss_35 : decode cX4_toss 35 = .ok (.if_icmp .eq 7, 3) := dk_159 0 7 (dk_at dksX4_toss_1 11 rfl rfl)
theorem dX4_toss_38 : decode cX4_toss 38 = .ok (.iload_n 3, 1) := dk_29 (dk_at dksX4_toss_1 14 rfl rfl)
theorem dX4_toss_39 : decode cX4_toss 39 = .ok (.ifCond .ne 6, 3) := dk_154 0 6 (dk_at dksX4_toss_1 15 rfl rfl)
theorem dX4_toss_42 : decode cX4_toss 42 = .ok (.bipush (-15), 2) := dk_16 241 (dk_at dksX4_toss_1 18 rfl rfl)
theorem dX4_toss_44 : decode cX4_toss 44 = .ok (.ireturn, 1) := dk_172 (dk_at dksX4_toss_1 20 rfl rfl)
theorem dX4_toss_45 : decode cX4_toss 45 = .ok (.iload_n 2, 1) := dk_28 (dk_at dksX4_toss_1 21 rfl rfl)
theorem dX4_toss_46 : decode cX4_toss 46 = .ok (.iconst 3, 1) := dk_6 (dk_at dksX4_toss_1 22 rfl rfl)
theorem dX4_toss_47 : decode cX4_toss 47 = .ok (.if_icmp .ne 10, 3) := dk_160 0 10 (dk_at dksX4_toss_2 0 rfl rfl)
theorem dX4_toss_50 : decode cX4_toss 50 = .ok (.bipush 100, 2) := dk_16 100 (dk_at dksX4_toss_2 3 rfl rfl)
theorem dX4_toss_52 : decode cX4_toss 52 = .ok (.iload_n 3, 1) := dk_29 (dk_at dksX4_toss_2 5 rfl rfl)
theorem dX4_toss_53 : decode cX4_toss 53 = .ok (.iadd, 1) := dk_96 (dk_at dksX4_toss_2 6 rfl rfl)
theorem dX4_toss_54 : decode cX4_toss 54 = .ok (.goto 21, 3) := dk_167 0 21 (dk_at dksX4_toss_2 7 rfl rfl)
theorem dX4_toss_57 : decode cX4_toss 57 = .ok (.iload_n 2, 1) := dk_28 (dk_at dksX4_toss_2 10 rfl rfl)
theorem dX4_toss_58 : decode cX4_toss 58 = .ok (.iconst 5, 1) := dk_8 (dk_at dksX4_toss_2 11 rfl rfl)
theorem dX4_toss_59 : decode cX4_toss 59 = .ok (.if_icmp .ne 15, 3) := dk_160 0 15 (dk_at dksX4_toss_2 12 rfl rfl)
theorem dX4_toss_62 : decode cX4_toss 62 = .ok (.sipush 200, 3) := dk_17 0 200 (dk_at dksX4_toss_2 15 rfl rfl)
theorem dX4_toss_65 : decode cX4_toss 65 = .ok (.iload_n 2, 1) := dk_28 (dk_at dksX4_toss_2 18 rfl rfl)
theorem dX4_toss_66 : decode cX4_toss 66 = .ok (.iload_n 3, 1) := dk_29 (dk_at dksX4_toss_2 19 rfl rfl)
theorem dX4_toss_67 : decode cX4_toss 67 = .ok (.invokestatic 327, 3) := dk_184 1 71 (dk_at dksX4_toss_2 20 rfl rfl)
theorem dX4_toss_70 : decode cX4_toss 70 = .ok (.iadd, 1) := dk_96 (dk_at dksX4_toss_2 23 rfl rfl)
theorem dX4_toss_71 : decode cX4_toss 71 = .ok (.goto 4, 3) := dk_167 0 4 (dk_at dksX4_toss_3 0 rfl rfl)
theorem dX4_toss_74 : decode cX4_toss 74 = .ok (.iload_n 3, 1) := dk_29 (dk_at dksX4_toss_3 3 rfl rfl)
theorem dX4_toss_75 : decode cX4_toss 75 = .ok (.ireturn, 1) := dk_172 (dk_at dksX4_toss_3 4 rfl rfl)
theorem q57 : (Jvm.Cond.initialized "WhoseGlassModel") ∈ lw_all := lw_g (lw_at lw_m1 4 rfl) rfl
theorem q1067 : (Jvm.Cond.instantiable "WhoseGlassModel" (46 : Nat)) ∈ lw_all := lw_g (lw_at lw_m5 54 rfl) rfl
theorem q1069 : (Jvm.Cond.instanceMethod ({ cls := "WhoseGlassModel", name := "<init>", desc := "()V" } : Jvm.MethodName)) ∈ lw_all := lw_g (lw_at lw_m5 56 rfl) rfl
theorem q1070 : (Jvm.Cond.code ({ cls := "WhoseGlassModel", name := "<init>", desc := "()V" } : Jvm.MethodName) prog_21_method_1_code (1 : Nat) (Option.none : Option Jvm.ClassFile.FieldType)) ∈ lw_all := lw_g (lw_at lw_m5 57 rfl) rfl
theorem q1071 : (Jvm.Cond.methodLink "WhoseGlassModel" (1 : Nat) ({ cls := "java/lang/Object", name := "<init>", desc := "()V" } : Jvm.MethodName)) ∈ lw_all := lw_g (lw_at lw_m5 58 rfl) rfl
theorem q1072 : (Jvm.Cond.fieldLink "WhoseGlassModel" (105 : Nat) "WhoseGlassModel" "glasses" "I") ∈ lw_all := lw_g (lw_at lw_m5 59 rfl) rfl
theorem q1073 : (Jvm.Cond.fieldLink "WhoseGlassModel" (112 : Nat) "WhoseGlassModel" "guests" "I") ∈ lw_all := lw_g (lw_at lw_m5 60 rfl) rfl
theorem q1074 : (Jvm.Cond.fieldLink "WhoseGlassModel" (7 : Nat) "WhoseGlassModel" "tray0" "I") ∈ lw_all := lw_g (lw_at lw_m5 61 rfl) rfl
theorem q1075 : (Jvm.Cond.fieldLink "WhoseGlassModel" (133 : Nat) "WhoseGlassModel" "minute" "I") ∈ lw_all := lw_g (lw_at lw_m5 62 rfl) rfl
theorem q1076 : (Jvm.Cond.fieldLink "WhoseGlassModel" (13 : Nat) "WhoseGlassModel" "kinds" "[I") ∈ lw_all := lw_g (lw_at lw_m5 63 rfl) rfl
theorem q1077 : (Jvm.Cond.fieldLink "WhoseGlassModel" (17 : Nat) "WhoseGlassModel" "figures" "[I") ∈ lw_all := lw_g (lw_at lw_m5 64 rfl) rfl
theorem q1078 : (Jvm.Cond.fieldLink "WhoseGlassModel" (20 : Nat) "WhoseGlassModel" "fills" "[I") ∈ lw_all := lw_g (lw_at lw_m5 65 rfl) rfl
theorem q1079 : (Jvm.Cond.fieldLink "WhoseGlassModel" (23 : Nat) "WhoseGlassModel" "wheres" "[I") ∈ lw_all := lw_g (lw_at lw_m5 66 rfl) rfl
theorem q1080 : (Jvm.Cond.fieldLink "WhoseGlassModel" (26 : Nat) "WhoseGlassModel" "laid" "[I") ∈ lw_all := lw_g (lw_at lw_m5 67 rfl) rfl
theorem q1081 : (Jvm.Cond.fieldLink "WhoseGlassModel" (29 : Nat) "WhoseGlassModel" "sips" "[I") ∈ lw_all := lw_g (lw_at lw_m5 68 rfl) rfl
theorem q1082 : (Jvm.Cond.fieldLink "WhoseGlassModel" (32 : Nat) "WhoseGlassModel" "germs" "[I") ∈ lw_all := lw_g (lw_at lw_m5 69 rfl) rfl
theorem q1083 : (Jvm.Cond.fieldLink "WhoseGlassModel" (35 : Nat) "WhoseGlassModel" "paces" "[I") ∈ lw_all := lw_g (lw_at lw_m5 70 rfl) rfl
theorem q1084 : (Jvm.Cond.fieldLink "WhoseGlassModel" (38 : Nat) "WhoseGlassModel" "lays" "[I") ∈ lw_all := lw_g (lw_at lw_m5 71 rfl) rfl
theorem q1085 : (Jvm.Cond.fieldLink "WhoseGlassModel" (41 : Nat) "WhoseGlassModel" "steps" "[I") ∈ lw_all := lw_g (lw_at lw_m5 72 rfl) rfl
theorem q1086 : (Jvm.Cond.fieldLink "WhoseGlassModel" (44 : Nat) "WhoseGlassModel" "cares" "[I") ∈ lw_all := lw_g (lw_at lw_m5 73 rfl) rfl
theorem q1087 : (Jvm.Cond.fieldLink "WhoseGlassModel" (47 : Nat) "WhoseGlassModel" "places" "[I") ∈ lw_all := lw_g (lw_at lw_m5 74 rfl) rfl
theorem q1088 : (Jvm.Cond.fieldLink "WhoseGlassModel" (50 : Nat) "WhoseGlassModel" "holds" "[I") ∈ lw_all := lw_g (lw_at lw_m5 75 rfl) rfl
theorem q1089 : (Jvm.Cond.fieldLink "WhoseGlassModel" (53 : Nat) "WhoseGlassModel" "owns" "[I") ∈ lw_all := lw_g (lw_at lw_m5 76 rfl) rfl
theorem q1090 : (Jvm.Cond.fieldLink "WhoseGlassModel" (56 : Nat) "WhoseGlassModel" "hads" "[I") ∈ lw_all := lw_g (lw_at lw_m5 77 rfl) rfl
theorem q1091 : (Jvm.Cond.fieldLink "WhoseGlassModel" (59 : Nat) "WhoseGlassModel" "cold" "[I") ∈ lw_all := lw_g (lw_at lw_m5 78 rfl) rfl
theorem q1092 : (Jvm.Cond.fieldLink "WhoseGlassModel" (146 : Nat) "WhoseGlassModel" "wrongs" "I") ∈ lw_all := lw_g (lw_at lw_m5 79 rfl) rfl
theorem q1093 : (Jvm.Cond.fieldLink "WhoseGlassModel" (157 : Nat) "WhoseGlassModel" "freshes" "I") ∈ lw_all := lw_g (lw_at lw_m5 80 rfl) rfl
theorem q1094 : (Jvm.Cond.fieldLink "WhoseGlassModel" (62 : Nat) "WhoseGlassModel" "closed" "I") ∈ lw_all := lw_g (lw_at lw_m5 81 rfl) rfl
theorem q1095 : (Jvm.Cond.fieldLink "WhoseGlassModel" (102 : Nat) "WhoseGlassModel" "thrown" "I") ∈ lw_all := lw_g (lw_at lw_m5 82 rfl) rfl
theorem q1096 : (Jvm.Cond.fieldLink "WhoseGlassModel" (65 : Nat) "WhoseGlassModel" "kept" "[I") ∈ lw_all := lw_g (lw_at lw_m5 83 rfl) rfl
theorem q1097 : (Jvm.Cond.fieldLink "WhoseGlassModel" (68 : Nat) "WhoseGlassModel" "imaged" "[I") ∈ lw_all := lw_g (lw_at lw_m5 84 rfl) rfl
theorem q1098 : (Jvm.Cond.fieldLink "WhoseGlassModel" (196 : Nat) "WhoseGlassModel" "hasImage" "Z") ∈ lw_all := lw_g (lw_at lw_m5 85 rfl) rfl
theorem q1099 : (Jvm.Cond.fieldLink "WhoseGlassModel" (183 : Nat) "WhoseGlassModel" "place0" "I") ∈ lw_all := lw_g (lw_at lw_m5 86 rfl) rfl
theorem q1100 : (Jvm.Cond.fieldLink "WhoseGlassModel" (176 : Nat) "WhoseGlassModel" "isTaking" "Z") ∈ lw_all := lw_g (lw_at lw_m5 87 rfl) rfl
theorem q1101 : (Jvm.Cond.fieldLink "WhoseGlassModel" (180 : Nat) "WhoseGlassModel" "keptIn" "[I") ∈ lw_all := lw_g (lw_at lw_m5 88 rfl) rfl
theorem q1102 : (Jvm.Cond.fieldLink "WhoseGlassModel" (205 : Nat) "WhoseGlassModel" "base" "I") ∈ lw_all := lw_g (lw_at lw_m5 89 rfl) rfl
theorem q1103 : (Jvm.Cond.fieldLink "WhoseGlassModel" (202 : Nat) "WhoseGlassModel" "end" "I") ∈ lw_all := lw_g (lw_at lw_m5 90 rfl) rfl
theorem q1104 : (Jvm.Cond.fieldLink "WhoseGlassModel" (199 : Nat) "WhoseGlassModel" "at" "I") ∈ lw_all := lw_g (lw_at lw_m5 91 rfl) rfl
theorem q1105 : (Jvm.Cond.fieldLink "WhoseGlassModel" (208 : Nat) "WhoseGlassModel" "isBad" "Z") ∈ lw_all := lw_g (lw_at lw_m5 92 rfl) rfl
theorem q1106 : (Jvm.Cond.fieldLink "WhoseGlassModel" (222 : Nat) "WhoseGlassModel" "statements" "I") ∈ lw_all := lw_g (lw_at lw_m5 93 rfl) rfl
theorem q1107 : (Jvm.Cond.fieldLink "WhoseGlassModel" (71 : Nat) "WhoseGlassModel" "placeOf" "[I") ∈ lw_all := lw_g (lw_at lw_m5 94 rfl) rfl
theorem q1108 : (Jvm.Cond.fieldLink "WhoseGlassModel" (74 : Nat) "WhoseGlassModel" "letterOf" "[I") ∈ lw_all := lw_g (lw_at lw_m5 95 rfl) rfl
theorem q1109 : (Jvm.Cond.fieldLink "WhoseGlassModel" (77 : Nat) "WhoseGlassModel" "told" "[I") ∈ lw_all := lw_g (lw_at lw_m5 96 rfl) rfl
theorem q1110 : (Jvm.Cond.fieldLink "WhoseGlassModel" (295 : Nat) "WhoseGlassModel" "seed" "I") ∈ lw_all := lw_g (lw_at lw_m5 97 rfl) rfl
theorem q1111 : (Jvm.Cond.fieldLink "WhoseGlassModel" (80 : Nat) "WhoseGlassModel" "holdsWhat" "[I") ∈ lw_all := lw_g (lw_at lw_m5 98 rfl) rfl
theorem q1112 : (Jvm.Cond.fieldLink "WhoseGlassModel" (83 : Nat) "WhoseGlassModel" "keptKind" "[I") ∈ lw_all := lw_g (lw_at lw_m5 99 rfl) rfl
theorem q1113 : (Jvm.Cond.fieldLink "WhoseGlassModel" (86 : Nat) "WhoseGlassModel" "keptFigure" "[I") ∈ lw_all := lw_g (lw_at lw_m5 100 rfl) rfl
theorem q1114 : (Jvm.Cond.fieldLink "WhoseGlassModel" (89 : Nat) "WhoseGlassModel" "rowSort" "[I") ∈ lw_all := lw_g (lw_at lw_m5 101 rfl) rfl
theorem q1115 : (Jvm.Cond.fieldLink "WhoseGlassModel" (92 : Nat) "WhoseGlassModel" "rowMany" "[I") ∈ lw_all := lw_g (lw_at lw_m5 102 rfl) rfl
theorem q1116 : (Jvm.Cond.fieldLink "WhoseGlassModel" (95 : Nat) "WhoseGlassModel" "rows" "[J") ∈ lw_all := lw_g (lw_at lw_m5 103 rfl) rfl
theorem q1117 : (Jvm.Cond.fieldLink "WhoseGlassModel" (99 : Nat) "WhoseGlassModel" "between" "[J") ∈ lw_all := lw_g (lw_at lw_m5 104 rfl) rfl
theorem q1118 : (Jvm.Cond.lays "WhoseGlassModel" "WhoseGlassModel" "glasses" "I") ∈ lw_all := lw_g (lw_at lw_m5 105 rfl) rfl
theorem q1119 : (Jvm.Cond.soleField "WhoseGlassModel" "glasses") ∈ lw_all := lw_g (lw_at lw_m5 106 rfl) rfl
theorem q1120 : (Jvm.Cond.lays "WhoseGlassModel" "WhoseGlassModel" "guests" "I") ∈ lw_all := lw_g (lw_at lw_m5 107 rfl) rfl
theorem q1121 : (Jvm.Cond.soleField "WhoseGlassModel" "guests") ∈ lw_all := lw_g (lw_at lw_m5 108 rfl) rfl
theorem q1122 : (Jvm.Cond.lays "WhoseGlassModel" "WhoseGlassModel" "tray0" "I") ∈ lw_all := lw_g (lw_at lw_m5 109 rfl) rfl
theorem q1123 : (Jvm.Cond.soleField "WhoseGlassModel" "tray0") ∈ lw_all := lw_g (lw_at lw_m5 110 rfl) rfl
theorem q1124 : (Jvm.Cond.lays "WhoseGlassModel" "WhoseGlassModel" "minute" "I") ∈ lw_all := lw_g (lw_at lw_m5 111 rfl) rfl
theorem q1125 : (Jvm.Cond.soleField "WhoseGlassModel" "minute") ∈ lw_all := lw_g (lw_at lw_m5 112 rfl) rfl
theorem q1126 : (Jvm.Cond.laysFinal "WhoseGlassModel" "WhoseGlassModel" "kinds" "[I") ∈ lw_all := lw_g (lw_at lw_m5 113 rfl) rfl
theorem q1127 : (Jvm.Cond.soleField "WhoseGlassModel" "kinds") ∈ lw_all := lw_g (lw_at lw_m5 114 rfl) rfl
theorem q1128 : (Jvm.Cond.laysFinal "WhoseGlassModel" "WhoseGlassModel" "figures" "[I") ∈ lw_all := lw_g (lw_at lw_m5 115 rfl) rfl
theorem q1129 : (Jvm.Cond.soleField "WhoseGlassModel" "figures") ∈ lw_all := lw_g (lw_at lw_m5 116 rfl) rfl
theorem q1130 : (Jvm.Cond.laysFinal "WhoseGlassModel" "WhoseGlassModel" "fills" "[I") ∈ lw_all := lw_g (lw_at lw_m5 117 rfl) rfl
theorem q1131 : (Jvm.Cond.soleField "WhoseGlassModel" "fills") ∈ lw_all := lw_g (lw_at lw_m5 118 rfl) rfl
theorem q1132 : (Jvm.Cond.laysFinal "WhoseGlassModel" "WhoseGlassModel" "wheres" "[I") ∈ lw_all := lw_g (lw_at lw_m5 119 rfl) rfl
theorem q1133 : (Jvm.Cond.soleField "WhoseGlassModel" "wheres") ∈ lw_all := lw_g (lw_at lw_m5 120 rfl) rfl
theorem q1134 : (Jvm.Cond.laysFinal "WhoseGlassModel" "WhoseGlassModel" "laid" "[I") ∈ lw_all := lw_g (lw_at lw_m5 121 rfl) rfl
theorem q1135 : (Jvm.Cond.soleField "WhoseGlassModel" "laid") ∈ lw_all := lw_g (lw_at lw_m5 122 rfl) rfl
theorem q1136 : (Jvm.Cond.laysFinal "WhoseGlassModel" "WhoseGlassModel" "sips" "[I") ∈ lw_all := lw_g (lw_at lw_m5 123 rfl) rfl
theorem q1137 : (Jvm.Cond.soleField "WhoseGlassModel" "sips") ∈ lw_all := lw_g (lw_at lw_m5 124 rfl) rfl
theorem q1138 : (Jvm.Cond.laysFinal "WhoseGlassModel" "WhoseGlassModel" "germs" "[I") ∈ lw_all := lw_g (lw_at lw_m5 125 rfl) rfl
theorem q1139 : (Jvm.Cond.soleField "WhoseGlassModel" "germs") ∈ lw_all := lw_g (lw_at lw_m5 126 rfl) rfl
theorem q1140 : (Jvm.Cond.laysFinal "WhoseGlassModel" "WhoseGlassModel" "paces" "[I") ∈ lw_all := lw_g (lw_at lw_m5 127 rfl) rfl
theorem q1141 : (Jvm.Cond.soleField "WhoseGlassModel" "paces") ∈ lw_all := lw_g (lw_at lw_m5 128 rfl) rfl
theorem q1142 : (Jvm.Cond.laysFinal "WhoseGlassModel" "WhoseGlassModel" "lays" "[I") ∈ lw_all := lw_g (lw_at lw_m5 129 rfl) rfl
theorem q1143 : (Jvm.Cond.soleField "WhoseGlassModel" "lays") ∈ lw_all := lw_g (lw_at lw_m5 130 rfl) rfl
theorem q1144 : (Jvm.Cond.laysFinal "WhoseGlassModel" "WhoseGlassModel" "steps" "[I") ∈ lw_all := lw_g (lw_at lw_m5 131 rfl) rfl
theorem q1145 : (Jvm.Cond.soleField "WhoseGlassModel" "steps") ∈ lw_all := lw_g (lw_at lw_m5 132 rfl) rfl
theorem q1146 : (Jvm.Cond.laysFinal "WhoseGlassModel" "WhoseGlassModel" "cares" "[I") ∈ lw_all := lw_g (lw_at lw_m5 133 rfl) rfl
theorem q1147 : (Jvm.Cond.soleField "WhoseGlassModel" "cares") ∈ lw_all := lw_g (lw_at lw_m5 134 rfl) rfl
theorem q1148 : (Jvm.Cond.laysFinal "WhoseGlassModel" "WhoseGlassModel" "places" "[I") ∈ lw_all := lw_g (lw_at lw_m5 135 rfl) rfl
theorem q1149 : (Jvm.Cond.soleField "WhoseGlassModel" "places") ∈ lw_all := lw_g (lw_at lw_m5 136 rfl) rfl
theorem q1150 : (Jvm.Cond.laysFinal "WhoseGlassModel" "WhoseGlassModel" "holds" "[I") ∈ lw_all := lw_g (lw_at lw_m5 137 rfl) rfl
theorem q1151 : (Jvm.Cond.soleField "WhoseGlassModel" "holds") ∈ lw_all := lw_g (lw_at lw_m5 138 rfl) rfl
theorem q1152 : (Jvm.Cond.laysFinal "WhoseGlassModel" "WhoseGlassModel" "owns" "[I") ∈ lw_all := lw_g (lw_at lw_m5 139 rfl) rfl
theorem q1153 : (Jvm.Cond.soleField "WhoseGlassModel" "owns") ∈ lw_all := lw_g (lw_at lw_m5 140 rfl) rfl
theorem q1154 : (Jvm.Cond.laysFinal "WhoseGlassModel" "WhoseGlassModel" "hads" "[I") ∈ lw_all := lw_g (lw_at lw_m5 141 rfl) rfl
theorem q1155 : (Jvm.Cond.soleField "WhoseGlassModel" "hads") ∈ lw_all := lw_g (lw_at lw_m5 142 rfl) rfl
theorem q1156 : (Jvm.Cond.laysFinal "WhoseGlassModel" "WhoseGlassModel" "cold" "[I") ∈ lw_all := lw_g (lw_at lw_m5 143 rfl) rfl
theorem q1157 : (Jvm.Cond.soleField "WhoseGlassModel" "cold") ∈ lw_all := lw_g (lw_at lw_m5 144 rfl) rfl
theorem q1158 : (Jvm.Cond.lays "WhoseGlassModel" "WhoseGlassModel" "wrongs" "I") ∈ lw_all := lw_g (lw_at lw_m5 145 rfl) rfl
theorem q1159 : (Jvm.Cond.soleField "WhoseGlassModel" "wrongs") ∈ lw_all := lw_g (lw_at lw_m5 146 rfl) rfl
theorem q1160 : (Jvm.Cond.lays "WhoseGlassModel" "WhoseGlassModel" "freshes" "I") ∈ lw_all := lw_g (lw_at lw_m5 147 rfl) rfl
theorem q1161 : (Jvm.Cond.soleField "WhoseGlassModel" "freshes") ∈ lw_all := lw_g (lw_at lw_m5 148 rfl) rfl
theorem q1162 : (Jvm.Cond.lays "WhoseGlassModel" "WhoseGlassModel" "closed" "I") ∈ lw_all := lw_g (lw_at lw_m5 149 rfl) rfl
theorem q1163 : (Jvm.Cond.soleField "WhoseGlassModel" "closed") ∈ lw_all := lw_g (lw_at lw_m5 150 rfl) rfl
theorem q1164 : (Jvm.Cond.lays "WhoseGlassModel" "WhoseGlassModel" "thrown" "I") ∈ lw_all := lw_g (lw_at lw_m5 151 rfl) rfl
theorem q1165 : (Jvm.Cond.soleField "WhoseGlassModel" "thrown") ∈ lw_all := lw_g (lw_at lw_m5 152 rfl) rfl
theorem q1166 : (Jvm.Cond.laysFinal "WhoseGlassModel" "WhoseGlassModel" "kept" "[I") ∈ lw_all := lw_g (lw_at lw_m5 153 rfl) rfl
theorem q1167 : (Jvm.Cond.soleField "WhoseGlassModel" "kept") ∈ lw_all := lw_g (lw_at lw_m5 154 rfl) rfl
theorem q1168 : (Jvm.Cond.laysFinal "WhoseGlassModel" "WhoseGlassModel" "imaged" "[I") ∈ lw_all := lw_g (lw_at lw_m5 155 rfl) rfl
theorem q1169 : (Jvm.Cond.soleField "WhoseGlassModel" "imaged") ∈ lw_all := lw_g (lw_at lw_m5 156 rfl) rfl
theorem q1170 : (Jvm.Cond.lays "WhoseGlassModel" "WhoseGlassModel" "hasImage" "Z") ∈ lw_all := lw_g (lw_at lw_m5 157 rfl) rfl
theorem q1171 : (Jvm.Cond.soleField "WhoseGlassModel" "hasImage") ∈ lw_all := lw_g (lw_at lw_m5 158 rfl) rfl
theorem q1172 : (Jvm.Cond.lays "WhoseGlassModel" "WhoseGlassModel" "place0" "I") ∈ lw_all := lw_g (lw_at lw_m5 159 rfl) rfl
theorem q1173 : (Jvm.Cond.soleField "WhoseGlassModel" "place0") ∈ lw_all := lw_g (lw_at lw_m5 160 rfl) rfl
theorem q1174 : (Jvm.Cond.lays "WhoseGlassModel" "WhoseGlassModel" "isTaking" "Z") ∈ lw_all := lw_g (lw_at lw_m5 161 rfl) rfl
theorem q1175 : (Jvm.Cond.soleField "WhoseGlassModel" "isTaking") ∈ lw_all := lw_g (lw_at lw_m5 162 rfl) rfl
theorem q1176 : (Jvm.Cond.lays "WhoseGlassModel" "WhoseGlassModel" "keptIn" "[I") ∈ lw_all := lw_g (lw_at lw_m5 163 rfl) rfl
theorem q1177 : (Jvm.Cond.soleField "WhoseGlassModel" "keptIn") ∈ lw_all := lw_g (lw_at lw_m5 164 rfl) rfl
theorem q1178 : (Jvm.Cond.lays "WhoseGlassModel" "WhoseGlassModel" "base" "I") ∈ lw_all := lw_g (lw_at lw_m5 165 rfl) rfl
theorem q1179 : (Jvm.Cond.soleField "WhoseGlassModel" "base") ∈ lw_all := lw_g (lw_at lw_m5 166 rfl) rfl
theorem q1180 : (Jvm.Cond.lays "WhoseGlassModel" "WhoseGlassModel" "end" "I") ∈ lw_all := lw_g (lw_at lw_m5 167 rfl) rfl
theorem q1181 : (Jvm.Cond.soleField "WhoseGlassModel" "end") ∈ lw_all := lw_g (lw_at lw_m5 168 rfl) rfl
theorem q1182 : (Jvm.Cond.lays "WhoseGlassModel" "WhoseGlassModel" "at" "I") ∈ lw_all := lw_g (lw_at lw_m5 169 rfl) rfl
theorem q1183 : (Jvm.Cond.soleField "WhoseGlassModel" "at") ∈ lw_all := lw_g (lw_at lw_m5 170 rfl) rfl
theorem q1184 : (Jvm.Cond.lays "WhoseGlassModel" "WhoseGlassModel" "isBad" "Z") ∈ lw_all := lw_g (lw_at lw_m5 171 rfl) rfl
theorem q1185 : (Jvm.Cond.soleField "WhoseGlassModel" "isBad") ∈ lw_all := lw_g (lw_at lw_m5 172 rfl) rfl
theorem q1186 : (Jvm.Cond.lays "WhoseGlassModel" "WhoseGlassModel" "statements" "I") ∈ lw_all := lw_g (lw_at lw_m5 173 rfl) rfl
theorem q1187 : (Jvm.Cond.soleField "WhoseGlassModel" "statements") ∈ lw_all := lw_g (lw_at lw_m5 174 rfl) rfl
theorem q1188 : (Jvm.Cond.laysFinal "WhoseGlassModel" "WhoseGlassModel" "placeOf" "[I") ∈ lw_all := lw_g (lw_at lw_m5 175 rfl) rfl
theorem q1189 : (Jvm.Cond.soleField "WhoseGlassModel" "placeOf") ∈ lw_all := lw_g (lw_at lw_m5 176 rfl) rfl
theorem q1190 : (Jvm.Cond.laysFinal "WhoseGlassModel" "WhoseGlassModel" "letterOf" "[I") ∈ lw_all := lw_g (lw_at lw_m5 177 rfl) rfl
theorem q1191 : (Jvm.Cond.soleField "WhoseGlassModel" "letterOf") ∈ lw_all := lw_g (lw_at lw_m5 178 rfl) rfl
theorem q1192 : (Jvm.Cond.laysFinal "WhoseGlassModel" "WhoseGlassModel" "told" "[I") ∈ lw_all := lw_g (lw_at lw_m5 179 rfl) rfl
theorem q1193 : (Jvm.Cond.soleField "WhoseGlassModel" "told") ∈ lw_all := lw_g (lw_at lw_m5 180 rfl) rfl
theorem q1194 : (Jvm.Cond.lays "WhoseGlassModel" "WhoseGlassModel" "seed" "I") ∈ lw_all := lw_g (lw_at lw_m5 181 rfl) rfl
theorem q1195 : (Jvm.Cond.soleField "WhoseGlassModel" "seed") ∈ lw_all := lw_g (lw_at lw_m5 182 rfl) rfl
theorem q1196 : (Jvm.Cond.laysFinal "WhoseGlassModel" "WhoseGlassModel" "holdsWhat" "[I") ∈ lw_all := lw_g (lw_at lw_m5 183 rfl) rfl
theorem q1197 : (Jvm.Cond.soleField "WhoseGlassModel" "holdsWhat") ∈ lw_all := lw_g (lw_at lw_m5 184 rfl) rfl
theorem q1198 : (Jvm.Cond.laysFinal "WhoseGlassModel" "WhoseGlassModel" "keptKind" "[I") ∈ lw_all := lw_g (lw_at lw_m5 185 rfl) rfl
theorem q1199 : (Jvm.Cond.soleField "WhoseGlassModel" "keptKind") ∈ lw_all := lw_g (lw_at lw_m5 186 rfl) rfl
theorem q1200 : (Jvm.Cond.laysFinal "WhoseGlassModel" "WhoseGlassModel" "keptFigure" "[I") ∈ lw_all := lw_g (lw_at lw_m5 187 rfl) rfl
theorem q1201 : (Jvm.Cond.soleField "WhoseGlassModel" "keptFigure") ∈ lw_all := lw_g (lw_at lw_m5 188 rfl) rfl
theorem q1202 : (Jvm.Cond.laysFinal "WhoseGlassModel" "WhoseGlassModel" "rowSort" "[I") ∈ lw_all := lw_g (lw_at lw_m5 189 rfl) rfl
theorem q1203 : (Jvm.Cond.soleField "WhoseGlassModel" "rowSort") ∈ lw_all := lw_g (lw_at lw_m5 190 rfl) rfl
theorem q1204 : (Jvm.Cond.laysFinal "WhoseGlassModel" "WhoseGlassModel" "rowMany" "[I") ∈ lw_all := lw_g (lw_at lw_m5 191 rfl) rfl
theorem q1205 : (Jvm.Cond.soleField "WhoseGlassModel" "rowMany") ∈ lw_all := lw_g (lw_at lw_m5 192 rfl) rfl
theorem q1206 : (Jvm.Cond.laysFinal "WhoseGlassModel" "WhoseGlassModel" "rows" "[J") ∈ lw_all := lw_g (lw_at lw_m5 193 rfl) rfl
theorem q1207 : (Jvm.Cond.soleField "WhoseGlassModel" "rows") ∈ lw_all := lw_g (lw_at lw_m5 194 rfl) rfl
theorem q1208 : (Jvm.Cond.laysFinal "WhoseGlassModel" "WhoseGlassModel" "between" "[J") ∈ lw_all := lw_g (lw_at lw_m5 195 rfl) rfl
theorem q1209 : (Jvm.Cond.soleField "WhoseGlassModel" "between") ∈ lw_all := lw_g (lw_at lw_m5 196 rfl) rfl
theorem q1210 : (Jvm.Cond.superclass "WhoseGlassModel" "java/lang/Object") ∈ lw_all := lw_g (lw_at lw_m5 197 rfl) rfl
theorem q1213 : (Jvm.Cond.instanceMethod ({ cls := "WhoseGlassModel", name := "thrown", desc := "()I" } : Jvm.MethodName)) ∈ lw_all := lw_g (lw_at lw_m5 200 rfl) rfl
theorem q1214 : (Jvm.Cond.selects "WhoseGlassModel" ({ cls := "WhoseGlassModel", name := "thrown", desc := "()I" } : Jvm.MethodName) ({ cls := "WhoseGlassModel", name := "thrown", desc := "()I" } : Jvm.MethodName)) ∈ lw_all := lw_g (lw_at lw_m5 201 rfl) rfl
theorem q1215 : (Jvm.Cond.code ({ cls := "WhoseGlassModel", name := "thrown", desc := "()I" } : Jvm.MethodName) prog_21_method_2_code (1 : Nat) (Option.some Jvm.ClassFile.FieldType.int)) ∈ lw_all := lw_g (lw_at lw_m5 202 rfl) rfl
theorem q1217 : (Jvm.Cond.instanceMethod ({ cls := "WhoseGlassModel", name := "image", desc := "()I" } : Jvm.MethodName)) ∈ lw_all := lw_g (lw_at lw_m5 204 rfl) rfl
theorem q1218 : (Jvm.Cond.selects "WhoseGlassModel" ({ cls := "WhoseGlassModel", name := "image", desc := "()I" } : Jvm.MethodName) ({ cls := "WhoseGlassModel", name := "image", desc := "()I" } : Jvm.MethodName)) ∈ lw_all := lw_g (lw_at lw_m5 205 rfl) rfl
theorem q1219 : (Jvm.Cond.code ({ cls := "WhoseGlassModel", name := "image", desc := "()I" } : Jvm.MethodName) prog_21_method_28_code (1 : Nat) (Option.some Jvm.ClassFile.FieldType.int)) ∈ lw_all := lw_g (lw_at lw_m5 206 rfl) rfl
theorem q1220 : (Jvm.Cond.methodLink "WhoseGlassModel" (189 : Nat) ({ cls := "WhoseGlassModel", name := "carryAll", desc := "([IZ)V" } : Jvm.MethodName)) ∈ lw_all := lw_g (lw_at lw_m5 207 rfl) rfl
theorem q1221 : (Jvm.Cond.privateMethod ({ cls := "WhoseGlassModel", name := "carryAll", desc := "([IZ)V" } : Jvm.MethodName)) ∈ lw_tbl := lw_at lw_m5 208 rfl
theorem q1222 : (Jvm.Cond.instanceMethod ({ cls := "WhoseGlassModel", name := "carryAll", desc := "([IZ)V" } : Jvm.MethodName)) ∈ lw_all := lw_g (lw_at lw_m5 209 rfl) rfl
theorem q1223 : (Jvm.Cond.code ({ cls := "WhoseGlassModel", name := "carryAll", desc := "([IZ)V" } : Jvm.MethodName) prog_21_method_24_code (4 : Nat) (Option.none : Option Jvm.ClassFile.FieldType)) ∈ lw_all := lw_g (lw_at lw_m5 210 rfl) rfl
theorem q1224 : (Jvm.Cond.methodLink "WhoseGlassModel" (186 : Nat) ({ cls := "WhoseGlassModel", name := "carry", desc := "(I)I" } : Jvm.MethodName)) ∈ lw_all := lw_g (lw_at lw_m5 211 rfl) rfl
theorem q1225 : (Jvm.Cond.privateMethod ({ cls := "WhoseGlassModel", name := "carry", desc := "(I)I" } : Jvm.MethodName)) ∈ lw_tbl := lw_at lw_m5 212 rfl
theorem q1226 : (Jvm.Cond.instanceMethod ({ cls := "WhoseGlassModel", name := "carry", desc := "(I)I" } : Jvm.MethodName)) ∈ lw_all := lw_g (lw_at lw_m5 213 rfl) rfl
theorem q1227 : (Jvm.Cond.code ({ cls := "WhoseGlassModel", name := "carry", desc := "(I)I" } : Jvm.MethodName) prog_21_method_23_code (2 : Nat) (Option.some Jvm.ClassFile.FieldType.int)) ∈ lw_all := lw_g (lw_at lw_m5 214 rfl) rfl
theorem q1229 : (Jvm.Cond.instanceMethod ({ cls := "WhoseGlassModel", name := "restore", desc := "()I" } : Jvm.MethodName)) ∈ lw_all := lw_g (lw_at lw_m5 216 rfl) rfl
theorem q1230 : (Jvm.Cond.selects "WhoseGlassModel" ({ cls := "WhoseGlassModel", name := "restore", desc := "()I" } : Jvm.MethodName) ({ cls := "WhoseGlassModel", name := "restore", desc := "()I" } : Jvm.MethodName)) ∈ lw_all := lw_g (lw_at lw_m5 217 rfl) rfl
theorem q1231 : (Jvm.Cond.code ({ cls := "WhoseGlassModel", name := "restore", desc := "()I" } : Jvm.MethodName) prog_21_method_29_code (1 : Nat) (Option.some Jvm.ClassFile.FieldType.int)) ∈ lw_all := lw_g (lw_at lw_m5 218 rfl) rfl
theorem q1233 : (Jvm.Cond.instanceMethod ({ cls := "WhoseGlassModel", name := "house", desc := "(I)I" } : Jvm.MethodName)) ∈ lw_all := lw_g (lw_at lw_m5 220 rfl) rfl
theorem q1234 : (Jvm.Cond.selects "WhoseGlassModel" ({ cls := "WhoseGlassModel", name := "house", desc := "(I)I" } : Jvm.MethodName) ({ cls := "WhoseGlassModel", name := "house", desc := "(I)I" } : Jvm.MethodName)) ∈ lw_all := lw_g (lw_at lw_m5 221 rfl) rfl
theorem q1235 : (Jvm.Cond.code ({ cls := "WhoseGlassModel", name := "house", desc := "(I)I" } : Jvm.MethodName) prog_21_method_38_code (4 : Nat) (Option.some Jvm.ClassFile.FieldType.int)) ∈ lw_all := lw_g (lw_at lw_m5 222 rfl) rfl
theorem q1236 : (Jvm.Cond.methodLink "WhoseGlassModel" (244 : Nat) ({ cls := "WhoseGlassModel", name := "wrongSort", desc := "(II)I" } : Jvm.MethodName)) ∈ lw_all := lw_g (lw_at lw_m5 223 rfl) rfl
theorem q1237 : (Jvm.Cond.privateMethod ({ cls := "WhoseGlassModel", name := "wrongSort", desc := "(II)I" } : Jvm.MethodName)) ∈ lw_tbl := lw_at lw_m5 224 rfl
theorem q1238 : (Jvm.Cond.instanceMethod ({ cls := "WhoseGlassModel", name := "wrongSort", desc := "(II)I" } : Jvm.MethodName)) ∈ lw_all := lw_g (lw_at lw_m5 225 rfl) rfl
theorem q1239 : (Jvm.Cond.code ({ cls := "WhoseGlassModel", name := "wrongSort", desc := "(II)I" } : Jvm.MethodName) prog_21_method_76_code (3 : Nat) (Option.some Jvm.ClassFile.FieldType.int)) ∈ lw_all := lw_g (lw_at lw_m5 226 rfl) rfl
theorem q1240 : (Jvm.Cond.methodLink "WhoseGlassModel" (312 : Nat) ({ cls := "WhoseGlassModel", name := "wrongRow", desc := "(I)I" } : Jvm.MethodName)) ∈ lw_all := lw_g (lw_at lw_m5 227 rfl) rfl
theorem q1241 : (Jvm.Cond.privateMethod ({ cls := "WhoseGlassModel", name := "wrongRow", desc := "(I)I" } : Jvm.MethodName)) ∈ lw_tbl := lw_at lw_m5 228 rfl
theorem q1242 : (Jvm.Cond.instanceMethod ({ cls := "WhoseGlassModel", name := "wrongRow", desc := "(I)I" } : Jvm.MethodName)) ∈ lw_all := lw_g (lw_at lw_m5 229 rfl) rfl
theorem q1243 : (Jvm.Cond.code ({ cls := "WhoseGlassModel", name := "wrongRow", desc := "(I)I" } : Jvm.MethodName) prog_21_method_78_code (2 : Nat) (Option.some Jvm.ClassFile.FieldType.int)) ∈ lw_all := lw_g (lw_at lw_m5 230 rfl) rfl
theorem q1244 : (Jvm.Cond.constantLong "WhoseGlassModel" (263 : Nat) (7 : Int64)) ∈ lw_all := lw_g (lw_at lw_m5 231 rfl) rfl
theorem q1245 : (Jvm.Cond.methodLink "WhoseGlassModel" (108 : Nat) ({ cls := "WhoseGlassModel", name := "in", desc := "(JJJ)Z" } : Jvm.MethodName)) ∈ lw_all := lw_g (lw_at lw_m5 232 rfl) rfl
theorem q1246 : (Jvm.Cond.static ({ cls := "WhoseGlassModel", name := "in", desc := "(JJJ)Z" } : Jvm.MethodName)) ∈ lw_all := lw_g (lw_at lw_m5 233 rfl) rfl
theorem q1247 : (Jvm.Cond.code ({ cls := "WhoseGlassModel", name := "in", desc := "(JJJ)Z" } : Jvm.MethodName) prog_21_method_3_code (6 : Nat) (Option.some Jvm.ClassFile.FieldType.boolean)) ∈ lw_all := lw_g (lw_at lw_m5 234 rfl) rfl
theorem q1248 : (Jvm.Cond.methodLink "WhoseGlassModel" (247 : Nat) ({ cls := "WhoseGlassModel", name := "readStatement", desc := "()V" } : Jvm.MethodName)) ∈ lw_all := lw_g (lw_at lw_m5 235 rfl) rfl
theorem q1249 : (Jvm.Cond.privateMethod ({ cls := "WhoseGlassModel", name := "readStatement", desc := "()V" } : Jvm.MethodName)) ∈ lw_tbl := lw_at lw_m5 236 rfl
theorem q1250 : (Jvm.Cond.instanceMethod ({ cls := "WhoseGlassModel", name := "readStatement", desc := "()V" } : Jvm.MethodName)) ∈ lw_all := lw_g (lw_at lw_m5 237 rfl) rfl
theorem q1251 : (Jvm.Cond.code ({ cls := "WhoseGlassModel", name := "readStatement", desc := "()V" } : Jvm.MethodName) prog_21_method_33_code (5 : Nat) (Option.none : Option Jvm.ClassFile.FieldType)) ∈ lw_all := lw_g (lw_at lw_m5 238 rfl) rfl
theorem q1252 : (Jvm.Cond.methodLink "WhoseGlassModel" (211 : Nat) ({ cls := "WhoseGlassModel", name := "here", desc := "()I" } : Jvm.MethodName)) ∈ lw_all := lw_g (lw_at lw_m5 239 rfl) rfl
theorem q1253 : (Jvm.Cond.privateMethod ({ cls := "WhoseGlassModel", name := "here", desc := "()I" } : Jvm.MethodName)) ∈ lw_tbl := lw_at lw_m6 0 rfl
theorem q1254 : (Jvm.Cond.instanceMethod ({ cls := "WhoseGlassModel", name := "here", desc := "()I" } : Jvm.MethodName)) ∈ lw_all := lw_g (lw_at lw_m6 1 rfl) rfl
theorem q1255 : (Jvm.Cond.code ({ cls := "WhoseGlassModel", name := "here", desc := "()I" } : Jvm.MethodName) prog_21_method_30_code (1 : Nat) (Option.some Jvm.ClassFile.FieldType.int)) ∈ lw_all := lw_g (lw_at lw_m6 2 rfl) rfl
theorem q1256 : (Jvm.Cond.methodLink "WhoseGlassModel" (219 : Nat) ({ cls := "WhoseGlassModel", name := "readDigit", desc := "()I" } : Jvm.MethodName)) ∈ lw_all := lw_g (lw_at lw_m6 3 rfl) rfl
theorem q1257 : (Jvm.Cond.privateMethod ({ cls := "WhoseGlassModel", name := "readDigit", desc := "()I" } : Jvm.MethodName)) ∈ lw_tbl := lw_at lw_m6 4 rfl
theorem q1258 : (Jvm.Cond.instanceMethod ({ cls := "WhoseGlassModel", name := "readDigit", desc := "()I" } : Jvm.MethodName)) ∈ lw_all := lw_g (lw_at lw_m6 5 rfl) rfl
theorem q1259 : (Jvm.Cond.code ({ cls := "WhoseGlassModel", name := "readDigit", desc := "()I" } : Jvm.MethodName) prog_21_method_31_code (1 : Nat) (Option.some Jvm.ClassFile.FieldType.int)) ∈ lw_all := lw_g (lw_at lw_m6 6 rfl) rfl
theorem q1260 : (Jvm.Cond.constantLong "WhoseGlassModel" (215 : Nat) (48 : Int64)) ∈ lw_all := lw_g (lw_at lw_m6 7 rfl) rfl
theorem q1261 : (Jvm.Cond.constantLong "WhoseGlassModel" (217 : Nat) (57 : Int64)) ∈ lw_all := lw_g (lw_at lw_m6 8 rfl) rfl
theorem q1262 : (Jvm.Cond.methodLink "WhoseGlassModel" (225 : Nat) ({ cls := "WhoseGlassModel", name := "readTwo", desc := "()I" } : Jvm.MethodName)) ∈ lw_all := lw_g (lw_at lw_m6 9 rfl) rfl
theorem q1263 : (Jvm.Cond.privateMethod ({ cls := "WhoseGlassModel", name := "readTwo", desc := "()I" } : Jvm.MethodName)) ∈ lw_tbl := lw_at lw_m6 10 rfl
theorem q1264 : (Jvm.Cond.instanceMethod ({ cls := "WhoseGlassModel", name := "readTwo", desc := "()I" } : Jvm.MethodName)) ∈ lw_all := lw_g (lw_at lw_m6 11 rfl) rfl
theorem q1265 : (Jvm.Cond.code ({ cls := "WhoseGlassModel", name := "readTwo", desc := "()I" } : Jvm.MethodName) prog_21_method_32_code (2 : Nat) (Option.some Jvm.ClassFile.FieldType.int)) ∈ lw_all := lw_g (lw_at lw_m6 12 rfl) rfl
theorem q1266 : (Jvm.Cond.methodLink "WhoseGlassModel" (250 : Nat) ({ cls := "WhoseGlassModel", name := "open", desc := "()V" } : Jvm.MethodName)) ∈ lw_all := lw_g (lw_at lw_m6 13 rfl) rfl
theorem q1267 : (Jvm.Cond.privateMethod ({ cls := "WhoseGlassModel", name := "open", desc := "()V" } : Jvm.MethodName)) ∈ lw_tbl := lw_at lw_m6 14 rfl
theorem q1268 : (Jvm.Cond.instanceMethod ({ cls := "WhoseGlassModel", name := "open", desc := "()V" } : Jvm.MethodName)) ∈ lw_all := lw_g (lw_at lw_m6 15 rfl) rfl
theorem q1269 : (Jvm.Cond.code ({ cls := "WhoseGlassModel", name := "open", desc := "()V" } : Jvm.MethodName) prog_21_method_25_code (1 : Nat) (Option.none : Option Jvm.ClassFile.FieldType)) ∈ lw_all := lw_g (lw_at lw_m6 16 rfl) rfl
theorem q1270 : (Jvm.Cond.methodLink "WhoseGlassModel" (253 : Nat) ({ cls := "WhoseGlassModel", name := "comesAll", desc := "(I)Z" } : Jvm.MethodName)) ∈ lw_all := lw_g (lw_at lw_m6 17 rfl) rfl
theorem q1271 : (Jvm.Cond.privateMethod ({ cls := "WhoseGlassModel", name := "comesAll", desc := "(I)Z" } : Jvm.MethodName)) ∈ lw_tbl := lw_at lw_m6 18 rfl
theorem q1272 : (Jvm.Cond.instanceMethod ({ cls := "WhoseGlassModel", name := "comesAll", desc := "(I)Z" } : Jvm.MethodName)) ∈ lw_all := lw_g (lw_at lw_m6 19 rfl) rfl
theorem q1273 : (Jvm.Cond.code ({ cls := "WhoseGlassModel", name := "comesAll", desc := "(I)Z" } : Jvm.MethodName) prog_21_method_37_code (3 : Nat) (Option.some Jvm.ClassFile.FieldType.boolean)) ∈ lw_all := lw_g (lw_at lw_m6 20 rfl) rfl
theorem q1274 : (Jvm.Cond.methodLink "WhoseGlassModel" (235 : Nat) ({ cls := "WhoseGlassModel", name := "glassComes", desc := "(I)Z" } : Jvm.MethodName)) ∈ lw_all := lw_g (lw_at lw_m6 21 rfl) rfl
theorem q1275 : (Jvm.Cond.privateMethod ({ cls := "WhoseGlassModel", name := "glassComes", desc := "(I)Z" } : Jvm.MethodName)) ∈ lw_tbl := lw_at lw_m6 22 rfl
theorem q1276 : (Jvm.Cond.instanceMethod ({ cls := "WhoseGlassModel", name := "glassComes", desc := "(I)Z" } : Jvm.MethodName)) ∈ lw_all := lw_g (lw_at lw_m6 23 rfl) rfl
theorem q1277 : (Jvm.Cond.code ({ cls := "WhoseGlassModel", name := "glassComes", desc := "(I)Z" } : Jvm.MethodName) prog_21_method_34_code (3 : Nat) (Option.some Jvm.ClassFile.FieldType.boolean)) ∈ lw_all := lw_g (lw_at lw_m6 24 rfl) rfl
theorem q1278 : (Jvm.Cond.methodLink "WhoseGlassModel" (153 : Nat) ({ cls := "WhoseGlassModel", name := "bring", desc := "(IIII)I" } : Jvm.MethodName)) ∈ lw_all := lw_g (lw_at lw_m6 25 rfl) rfl
theorem q1279 : (Jvm.Cond.privateMethod ({ cls := "WhoseGlassModel", name := "bring", desc := "(IIII)I" } : Jvm.MethodName)) ∈ lw_tbl := lw_at lw_m6 26 rfl
theorem q1280 : (Jvm.Cond.instanceMethod ({ cls := "WhoseGlassModel", name := "bring", desc := "(IIII)I" } : Jvm.MethodName)) ∈ lw_all := lw_g (lw_at lw_m6 27 rfl) rfl
theorem q1281 : (Jvm.Cond.code ({ cls := "WhoseGlassModel", name := "bring", desc := "(IIII)I" } : Jvm.MethodName) prog_21_method_17_code (6 : Nat) (Option.some Jvm.ClassFile.FieldType.int)) ∈ lw_all := lw_g (lw_at lw_m6 28 rfl) rfl
theorem q1282 : (Jvm.Cond.methodLink "WhoseGlassModel" (238 : Nat) ({ cls := "WhoseGlassModel", name := "guestComes", desc := "(I)Z" } : Jvm.MethodName)) ∈ lw_all := lw_g (lw_at lw_m6 29 rfl) rfl
theorem q1283 : (Jvm.Cond.privateMethod ({ cls := "WhoseGlassModel", name := "guestComes", desc := "(I)Z" } : Jvm.MethodName)) ∈ lw_tbl := lw_at lw_m6 30 rfl
theorem q1284 : (Jvm.Cond.instanceMethod ({ cls := "WhoseGlassModel", name := "guestComes", desc := "(I)Z" } : Jvm.MethodName)) ∈ lw_all := lw_g (lw_at lw_m6 31 rfl) rfl
theorem q1285 : (Jvm.Cond.code ({ cls := "WhoseGlassModel", name := "guestComes", desc := "(I)Z" } : Jvm.MethodName) prog_21_method_35_code (3 : Nat) (Option.some Jvm.ClassFile.FieldType.boolean)) ∈ lw_all := lw_g (lw_at lw_m6 32 rfl) rfl
theorem q1286 : (Jvm.Cond.methodLink "WhoseGlassModel" (241 : Nat) ({ cls := "WhoseGlassModel", name := "holdComes", desc := "(II)Z" } : Jvm.MethodName)) ∈ lw_all := lw_g (lw_at lw_m6 33 rfl) rfl
theorem q1287 : (Jvm.Cond.privateMethod ({ cls := "WhoseGlassModel", name := "holdComes", desc := "(II)Z" } : Jvm.MethodName)) ∈ lw_tbl := lw_at lw_m6 34 rfl
theorem q1288 : (Jvm.Cond.instanceMethod ({ cls := "WhoseGlassModel", name := "holdComes", desc := "(II)Z" } : Jvm.MethodName)) ∈ lw_all := lw_g (lw_at lw_m6 35 rfl) rfl
theorem q1289 : (Jvm.Cond.code ({ cls := "WhoseGlassModel", name := "holdComes", desc := "(II)Z" } : Jvm.MethodName) prog_21_method_36_code (4 : Nat) (Option.some Jvm.ClassFile.FieldType.boolean)) ∈ lw_all := lw_g (lw_at lw_m6 36 rfl) rfl
theorem q1290 : (Jvm.Cond.methodLink "WhoseGlassModel" (228 : Nat) ({ cls := "WhoseGlassModel", name := "isGuest", desc := "(I)Z" } : Jvm.MethodName)) ∈ lw_all := lw_g (lw_at lw_m6 37 rfl) rfl
theorem q1291 : (Jvm.Cond.privateMethod ({ cls := "WhoseGlassModel", name := "isGuest", desc := "(I)Z" } : Jvm.MethodName)) ∈ lw_tbl := lw_at lw_m6 38 rfl
theorem q1292 : (Jvm.Cond.instanceMethod ({ cls := "WhoseGlassModel", name := "isGuest", desc := "(I)Z" } : Jvm.MethodName)) ∈ lw_all := lw_g (lw_at lw_m6 39 rfl) rfl
theorem q1293 : (Jvm.Cond.code ({ cls := "WhoseGlassModel", name := "isGuest", desc := "(I)Z" } : Jvm.MethodName) prog_21_method_5_code (2 : Nat) (Option.some Jvm.ClassFile.FieldType.boolean)) ∈ lw_all := lw_g (lw_at lw_m6 40 rfl) rfl
theorem q1294 : (Jvm.Cond.methodLink "WhoseGlassModel" (232 : Nat) ({ cls := "WhoseGlassModel", name := "isGlass", desc := "(I)Z" } : Jvm.MethodName)) ∈ lw_all := lw_g (lw_at lw_m6 41 rfl) rfl
theorem q1295 : (Jvm.Cond.privateMethod ({ cls := "WhoseGlassModel", name := "isGlass", desc := "(I)Z" } : Jvm.MethodName)) ∈ lw_tbl := lw_at lw_m6 42 rfl
theorem q1296 : (Jvm.Cond.instanceMethod ({ cls := "WhoseGlassModel", name := "isGlass", desc := "(I)Z" } : Jvm.MethodName)) ∈ lw_all := lw_g (lw_at lw_m6 43 rfl) rfl
theorem q1297 : (Jvm.Cond.code ({ cls := "WhoseGlassModel", name := "isGlass", desc := "(I)Z" } : Jvm.MethodName) prog_21_method_4_code (2 : Nat) (Option.some Jvm.ClassFile.FieldType.boolean)) ∈ lw_all := lw_g (lw_at lw_m6 44 rfl) rfl
theorem q1298 : (Jvm.Cond.methodLink "WhoseGlassModel" (149 : Nat) ({ cls := "WhoseGlassModel", name := "hold", desc := "(II)V" } : Jvm.MethodName)) ∈ lw_all := lw_g (lw_at lw_m6 45 rfl) rfl
theorem q1299 : (Jvm.Cond.privateMethod ({ cls := "WhoseGlassModel", name := "hold", desc := "(II)V" } : Jvm.MethodName)) ∈ lw_tbl := lw_at lw_m6 46 rfl
theorem q1300 : (Jvm.Cond.instanceMethod ({ cls := "WhoseGlassModel", name := "hold", desc := "(II)V" } : Jvm.MethodName)) ∈ lw_all := lw_g (lw_at lw_m6 47 rfl) rfl
theorem q1301 : (Jvm.Cond.code ({ cls := "WhoseGlassModel", name := "hold", desc := "(II)V" } : Jvm.MethodName) prog_21_method_18_code (3 : Nat) (Option.none : Option Jvm.ClassFile.FieldType)) ∈ lw_all := lw_g (lw_at lw_m6 48 rfl) rfl
theorem q1302 : (Jvm.Cond.methodLink "WhoseGlassModel" (193 : Nat) ({ cls := "WhoseGlassModel", name := "minuteOn", desc := "()V" } : Jvm.MethodName)) ∈ lw_all := lw_g (lw_at lw_m6 49 rfl) rfl
theorem q1303 : (Jvm.Cond.privateMethod ({ cls := "WhoseGlassModel", name := "minuteOn", desc := "()V" } : Jvm.MethodName)) ∈ lw_tbl := lw_at lw_m6 50 rfl
theorem q1304 : (Jvm.Cond.instanceMethod ({ cls := "WhoseGlassModel", name := "minuteOn", desc := "()V" } : Jvm.MethodName)) ∈ lw_all := lw_g (lw_at lw_m6 51 rfl) rfl
theorem q1305 : (Jvm.Cond.code ({ cls := "WhoseGlassModel", name := "minuteOn", desc := "()V" } : Jvm.MethodName) prog_21_method_22_code (2 : Nat) (Option.none : Option Jvm.ClassFile.FieldType)) ∈ lw_all := lw_g (lw_at lw_m6 52 rfl) rfl
theorem q1306 : (Jvm.Cond.methodLink "WhoseGlassModel" (173 : Nat) ({ cls := "WhoseGlassModel", name := "guestOn", desc := "(I)V" } : Jvm.MethodName)) ∈ lw_all := lw_g (lw_at lw_m6 53 rfl) rfl
theorem q1307 : (Jvm.Cond.privateMethod ({ cls := "WhoseGlassModel", name := "guestOn", desc := "(I)V" } : Jvm.MethodName)) ∈ lw_tbl := lw_at lw_m6 54 rfl
theorem q1308 : (Jvm.Cond.instanceMethod ({ cls := "WhoseGlassModel", name := "guestOn", desc := "(I)V" } : Jvm.MethodName)) ∈ lw_all := lw_g (lw_at lw_m6 55 rfl) rfl
theorem q1309 : (Jvm.Cond.code ({ cls := "WhoseGlassModel", name := "guestOn", desc := "(I)V" } : Jvm.MethodName) prog_21_method_21_code (2 : Nat) (Option.none : Option Jvm.ClassFile.FieldType)) ∈ lw_all := lw_g (lw_at lw_m6 56 rfl) rfl
theorem q1310 : (Jvm.Cond.methodLink "WhoseGlassModel" (160 : Nat) ({ cls := "WhoseGlassModel", name := "goOn", desc := "(I)V" } : Jvm.MethodName)) ∈ lw_all := lw_g (lw_at lw_m6 57 rfl) rfl
theorem q1311 : (Jvm.Cond.privateMethod ({ cls := "WhoseGlassModel", name := "goOn", desc := "(I)V" } : Jvm.MethodName)) ∈ lw_tbl := lw_at lw_m6 58 rfl
theorem q1312 : (Jvm.Cond.instanceMethod ({ cls := "WhoseGlassModel", name := "goOn", desc := "(I)V" } : Jvm.MethodName)) ∈ lw_all := lw_g (lw_at lw_m6 59 rfl) rfl
theorem q1313 : (Jvm.Cond.code ({ cls := "WhoseGlassModel", name := "goOn", desc := "(I)V" } : Jvm.MethodName) prog_21_method_20_code (3 : Nat) (Option.none : Option Jvm.ClassFile.FieldType)) ∈ lw_all := lw_g (lw_at lw_m6 60 rfl) rfl
theorem q1314 : (Jvm.Cond.methodLink "WhoseGlassModel" (164 : Nat) ({ cls := "WhoseGlassModel", name := "takeOne", desc := "(I)I" } : Jvm.MethodName)) ∈ lw_all := lw_g (lw_at lw_m6 61 rfl) rfl
theorem q1315 : (Jvm.Cond.privateMethod ({ cls := "WhoseGlassModel", name := "takeOne", desc := "(I)I" } : Jvm.MethodName)) ∈ lw_tbl := lw_at lw_m6 62 rfl
theorem q1316 : (Jvm.Cond.instanceMethod ({ cls := "WhoseGlassModel", name := "takeOne", desc := "(I)I" } : Jvm.MethodName)) ∈ lw_all := lw_g (lw_at lw_m6 63 rfl) rfl
theorem q1317 : (Jvm.Cond.code ({ cls := "WhoseGlassModel", name := "takeOne", desc := "(I)I" } : Jvm.MethodName) prog_21_method_19_code (3 : Nat) (Option.some Jvm.ClassFile.FieldType.int)) ∈ lw_all := lw_g (lw_at lw_m6 64 rfl) rfl
theorem q1318 : (Jvm.Cond.methodLink "WhoseGlassModel" (143 : Nat) ({ cls := "WhoseGlassModel", name := "wouldTake", desc := "(I)I" } : Jvm.MethodName)) ∈ lw_all := lw_g (lw_at lw_m6 65 rfl) rfl
theorem q1319 : (Jvm.Cond.privateMethod ({ cls := "WhoseGlassModel", name := "wouldTake", desc := "(I)I" } : Jvm.MethodName)) ∈ lw_tbl := lw_at lw_m6 66 rfl
theorem q1320 : (Jvm.Cond.instanceMethod ({ cls := "WhoseGlassModel", name := "wouldTake", desc := "(I)I" } : Jvm.MethodName)) ∈ lw_all := lw_g (lw_at lw_m6 67 rfl) rfl
theorem q1321 : (Jvm.Cond.code ({ cls := "WhoseGlassModel", name := "wouldTake", desc := "(I)I" } : Jvm.MethodName) prog_21_method_16_code (9 : Nat) (Option.some Jvm.ClassFile.FieldType.int)) ∈ lw_all := lw_g (lw_at lw_m6 68 rfl) rfl
theorem q1322 : (Jvm.Cond.methodLink "WhoseGlassModel" (136 : Nat) ({ cls := "WhoseGlassModel", name := "likeOf", desc := "(II)I" } : Jvm.MethodName)) ∈ lw_all := lw_g (lw_at lw_m6 69 rfl) rfl
theorem q1323 : (Jvm.Cond.privateMethod ({ cls := "WhoseGlassModel", name := "likeOf", desc := "(II)I" } : Jvm.MethodName)) ∈ lw_tbl := lw_at lw_m6 70 rfl
theorem q1324 : (Jvm.Cond.instanceMethod ({ cls := "WhoseGlassModel", name := "likeOf", desc := "(II)I" } : Jvm.MethodName)) ∈ lw_all := lw_g (lw_at lw_m6 71 rfl) rfl
theorem q1325 : (Jvm.Cond.code ({ cls := "WhoseGlassModel", name := "likeOf", desc := "(II)I" } : Jvm.MethodName) prog_21_method_11_code (3 : Nat) (Option.some Jvm.ClassFile.FieldType.int)) ∈ lw_all := lw_g (lw_at lw_m6 72 rfl) rfl
theorem q1326 : (Jvm.Cond.methodLink "WhoseGlassModel" (119 : Nat) ({ cls := "WhoseGlassModel", name := "plainly", desc := "(II)I" } : Jvm.MethodName)) ∈ lw_all := lw_g (lw_at lw_m6 73 rfl) rfl
theorem q1327 : (Jvm.Cond.privateMethod ({ cls := "WhoseGlassModel", name := "plainly", desc := "(II)I" } : Jvm.MethodName)) ∈ lw_tbl := lw_at lw_m6 74 rfl
theorem q1328 : (Jvm.Cond.instanceMethod ({ cls := "WhoseGlassModel", name := "plainly", desc := "(II)I" } : Jvm.MethodName)) ∈ lw_all := lw_g (lw_at lw_m6 75 rfl) rfl
theorem q1329 : (Jvm.Cond.code ({ cls := "WhoseGlassModel", name := "plainly", desc := "(II)I" } : Jvm.MethodName) prog_21_method_8_code (3 : Nat) (Option.some Jvm.ClassFile.FieldType.int)) ∈ lw_all := lw_g (lw_at lw_m6 76 rfl) rfl
theorem q1330 : (Jvm.Cond.methodLink "WhoseGlassModel" (123 : Nat) ({ cls := "WhoseGlassModel", name := "tally", desc := "(II)I" } : Jvm.MethodName)) ∈ lw_all := lw_g (lw_at lw_m6 77 rfl) rfl
theorem q1331 : (Jvm.Cond.privateMethod ({ cls := "WhoseGlassModel", name := "tally", desc := "(II)I" } : Jvm.MethodName)) ∈ lw_tbl := lw_at lw_m6 78 rfl
theorem q1332 : (Jvm.Cond.instanceMethod ({ cls := "WhoseGlassModel", name := "tally", desc := "(II)I" } : Jvm.MethodName)) ∈ lw_all := lw_g (lw_at lw_m6 79 rfl) rfl
theorem q1333 : (Jvm.Cond.code ({ cls := "WhoseGlassModel", name := "tally", desc := "(II)I" } : Jvm.MethodName) prog_21_method_10_code (3 : Nat) (Option.some Jvm.ClassFile.FieldType.int)) ∈ lw_all := lw_g (lw_at lw_m6 80 rfl) rfl
theorem q1334 : (Jvm.Cond.methodLink "WhoseGlassModel" (126 : Nat) ({ cls := "WhoseGlassModel", name := "redly", desc := "(II)I" } : Jvm.MethodName)) ∈ lw_all := lw_g (lw_at lw_m6 81 rfl) rfl
theorem q1335 : (Jvm.Cond.privateMethod ({ cls := "WhoseGlassModel", name := "redly", desc := "(II)I" } : Jvm.MethodName)) ∈ lw_tbl := lw_at lw_m6 82 rfl
theorem q1336 : (Jvm.Cond.instanceMethod ({ cls := "WhoseGlassModel", name := "redly", desc := "(II)I" } : Jvm.MethodName)) ∈ lw_all := lw_g (lw_at lw_m6 83 rfl) rfl
theorem q1337 : (Jvm.Cond.code ({ cls := "WhoseGlassModel", name := "redly", desc := "(II)I" } : Jvm.MethodName) prog_21_method_9_code (4 : Nat) (Option.some Jvm.ClassFile.FieldType.int)) ∈ lw_all := lw_g (lw_at lw_m6 84 rfl) rfl
theorem q1338 : (Jvm.Cond.methodLink "WhoseGlassModel" (139 : Nat) ({ cls := "WhoseGlassModel", name := "isLater", desc := "(II)Z" } : Jvm.MethodName)) ∈ lw_all := lw_g (lw_at lw_m6 85 rfl) rfl
theorem q1339 : (Jvm.Cond.privateMethod ({ cls := "WhoseGlassModel", name := "isLater", desc := "(II)Z" } : Jvm.MethodName)) ∈ lw_tbl := lw_at lw_m6 86 rfl
theorem q1340 : (Jvm.Cond.instanceMethod ({ cls := "WhoseGlassModel", name := "isLater", desc := "(II)Z" } : Jvm.MethodName)) ∈ lw_all := lw_g (lw_at lw_m6 87 rfl) rfl
theorem q1341 : (Jvm.Cond.code ({ cls := "WhoseGlassModel", name := "isLater", desc := "(II)Z" } : Jvm.MethodName) prog_21_method_15_code (3 : Nat) (Option.some Jvm.ClassFile.FieldType.boolean)) ∈ lw_all := lw_g (lw_at lw_m6 88 rfl) rfl
theorem q1342 : (Jvm.Cond.methodLink "WhoseGlassModel" (167 : Nat) ({ cls := "WhoseGlassModel", name := "sipOne", desc := "(I)I" } : Jvm.MethodName)) ∈ lw_all := lw_g (lw_at lw_m6 89 rfl) rfl
theorem q1343 : (Jvm.Cond.privateMethod ({ cls := "WhoseGlassModel", name := "sipOne", desc := "(I)I" } : Jvm.MethodName)) ∈ lw_tbl := lw_at lw_m6 90 rfl
theorem q1344 : (Jvm.Cond.instanceMethod ({ cls := "WhoseGlassModel", name := "sipOne", desc := "(I)I" } : Jvm.MethodName)) ∈ lw_all := lw_g (lw_at lw_m6 91 rfl) rfl
theorem q1345 : (Jvm.Cond.code ({ cls := "WhoseGlassModel", name := "sipOne", desc := "(I)I" } : Jvm.MethodName) prog_21_method_13_code (4 : Nat) (Option.some Jvm.ClassFile.FieldType.int)) ∈ lw_all := lw_g (lw_at lw_m6 92 rfl) rfl
theorem q1346 : (Jvm.Cond.methodLink "WhoseGlassModel" (129 : Nat) ({ cls := "WhoseGlassModel", name := "strengthOf", desc := "(I)I" } : Jvm.MethodName)) ∈ lw_all := lw_g (lw_at lw_m6 93 rfl) rfl
theorem q1347 : (Jvm.Cond.privateMethod ({ cls := "WhoseGlassModel", name := "strengthOf", desc := "(I)I" } : Jvm.MethodName)) ∈ lw_tbl := lw_at lw_m6 94 rfl
theorem q1348 : (Jvm.Cond.instanceMethod ({ cls := "WhoseGlassModel", name := "strengthOf", desc := "(I)I" } : Jvm.MethodName)) ∈ lw_all := lw_g (lw_at lw_m6 95 rfl) rfl
theorem q1349 : (Jvm.Cond.code ({ cls := "WhoseGlassModel", name := "strengthOf", desc := "(I)I" } : Jvm.MethodName) prog_21_method_12_code (2 : Nat) (Option.some Jvm.ClassFile.FieldType.int)) ∈ lw_all := lw_g (lw_at lw_m6 96 rfl) rfl
theorem q1350 : (Jvm.Cond.methodLink "WhoseGlassModel" (170 : Nat) ({ cls := "WhoseGlassModel", name := "layOne", desc := "(I)I" } : Jvm.MethodName)) ∈ lw_all := lw_g (lw_at lw_m6 97 rfl) rfl
theorem q1351 : (Jvm.Cond.privateMethod ({ cls := "WhoseGlassModel", name := "layOne", desc := "(I)I" } : Jvm.MethodName)) ∈ lw_tbl := lw_at lw_m6 98 rfl
theorem q1352 : (Jvm.Cond.instanceMethod ({ cls := "WhoseGlassModel", name := "layOne", desc := "(I)I" } : Jvm.MethodName)) ∈ lw_all := lw_g (lw_at lw_m6 99 rfl) rfl
theorem q1353 : (Jvm.Cond.code ({ cls := "WhoseGlassModel", name := "layOne", desc := "(I)I" } : Jvm.MethodName) prog_21_method_14_code (3 : Nat) (Option.some Jvm.ClassFile.FieldType.int)) ∈ lw_all := lw_g (lw_at lw_m6 100 rfl) rfl
theorem q1354 : (Jvm.Cond.methodLink "WhoseGlassModel" (256 : Nat) ({ cls := "WhoseGlassModel", name := "again", desc := "()V" } : Jvm.MethodName)) ∈ lw_all := lw_g (lw_at lw_m6 101 rfl) rfl
theorem q1355 : (Jvm.Cond.privateMethod ({ cls := "WhoseGlassModel", name := "again", desc := "()V" } : Jvm.MethodName)) ∈ lw_tbl := lw_at lw_m6 102 rfl
theorem q1356 : (Jvm.Cond.instanceMethod ({ cls := "WhoseGlassModel", name := "again", desc := "()V" } : Jvm.MethodName)) ∈ lw_all := lw_g (lw_at lw_m6 103 rfl) rfl
theorem q1357 : (Jvm.Cond.code ({ cls := "WhoseGlassModel", name := "again", desc := "()V" } : Jvm.MethodName) prog_21_method_26_code (1 : Nat) (Option.none : Option Jvm.ClassFile.FieldType)) ∈ lw_all := lw_g (lw_at lw_m6 104 rfl) rfl
theorem q1359 : (Jvm.Cond.instanceMethod ({ cls := "WhoseGlassModel", name := "glass", desc := "(II)I" } : Jvm.MethodName)) ∈ lw_all := lw_g (lw_at lw_m6 106 rfl) rfl
theorem q1360 : (Jvm.Cond.selects "WhoseGlassModel" ({ cls := "WhoseGlassModel", name := "glass", desc := "(II)I" } : Jvm.MethodName) ({ cls := "WhoseGlassModel", name := "glass", desc := "(II)I" } : Jvm.MethodName)) ∈ lw_all := lw_g (lw_at lw_m6 107 rfl) rfl
theorem q1361 : (Jvm.Cond.code ({ cls := "WhoseGlassModel", name := "glass", desc := "(II)I" } : Jvm.MethodName) prog_21_method_39_code (3 : Nat) (Option.some Jvm.ClassFile.FieldType.int)) ∈ lw_all := lw_g (lw_at lw_m6 108 rfl) rfl
theorem q1362 : (Jvm.Cond.constantLong "WhoseGlassModel" (259 : Nat) (6 : Int64)) ∈ lw_all := lw_g (lw_at lw_m6 109 rfl) rfl
theorem q1364 : (Jvm.Cond.instanceMethod ({ cls := "WhoseGlassModel", name := "guest", desc := "(II)I" } : Jvm.MethodName)) ∈ lw_all := lw_g (lw_at lw_m6 111 rfl) rfl
theorem q1365 : (Jvm.Cond.selects "WhoseGlassModel" ({ cls := "WhoseGlassModel", name := "guest", desc := "(II)I" } : Jvm.MethodName) ({ cls := "WhoseGlassModel", name := "guest", desc := "(II)I" } : Jvm.MethodName)) ∈ lw_all := lw_g (lw_at lw_m6 112 rfl) rfl
theorem q1366 : (Jvm.Cond.code ({ cls := "WhoseGlassModel", name := "guest", desc := "(II)I" } : Jvm.MethodName) prog_21_method_40_code (3 : Nat) (Option.some Jvm.ClassFile.FieldType.int)) ∈ lw_all := lw_g (lw_at lw_m6 113 rfl) rfl
theorem q1367 : (Jvm.Cond.constantLong "WhoseGlassModel" (261 : Nat) (8 : Int64)) ∈ lw_all := lw_g (lw_at lw_m6 114 rfl) rfl
theorem q1369 : (Jvm.Cond.instanceMethod ({ cls := "WhoseGlassModel", name := "comes", desc := "(II)I" } : Jvm.MethodName)) ∈ lw_all := lw_g (lw_at lw_m6 116 rfl) rfl
theorem q1370 : (Jvm.Cond.selects "WhoseGlassModel" ({ cls := "WhoseGlassModel", name := "comes", desc := "(II)I" } : Jvm.MethodName) ({ cls := "WhoseGlassModel", name := "comes", desc := "(II)I" } : Jvm.MethodName)) ∈ lw_all := lw_g (lw_at lw_m6 117 rfl) rfl
theorem q1371 : (Jvm.Cond.code ({ cls := "WhoseGlassModel", name := "comes", desc := "(II)I" } : Jvm.MethodName) prog_21_method_42_code (4 : Nat) (Option.some Jvm.ClassFile.FieldType.int)) ∈ lw_all := lw_g (lw_at lw_m6 118 rfl) rfl
theorem q1372 : (Jvm.Cond.methodLink "WhoseGlassModel" (265 : Nat) ({ cls := "WhoseGlassModel", name := "isPlace", desc := "(I)Z" } : Jvm.MethodName)) ∈ lw_all := lw_g (lw_at lw_m6 119 rfl) rfl
theorem q1373 : (Jvm.Cond.static ({ cls := "WhoseGlassModel", name := "isPlace", desc := "(I)Z" } : Jvm.MethodName)) ∈ lw_all := lw_g (lw_at lw_m6 120 rfl) rfl
theorem q1374 : (Jvm.Cond.code ({ cls := "WhoseGlassModel", name := "isPlace", desc := "(I)Z" } : Jvm.MethodName) prog_21_method_6_code (1 : Nat) (Option.some Jvm.ClassFile.FieldType.boolean)) ∈ lw_all := lw_g (lw_at lw_m6 121 rfl) rfl
theorem q1375 : (Jvm.Cond.constantLong "WhoseGlassModel" (115 : Nat) (5 : Int64)) ∈ lw_all := lw_g (lw_at lw_m6 122 rfl) rfl
theorem q1376 : (Jvm.Cond.methodLink "WhoseGlassModel" (268 : Nat) ({ cls := "WhoseGlassModel", name := "wrongKept", desc := "(I)I" } : Jvm.MethodName)) ∈ lw_all := lw_g (lw_at lw_m6 123 rfl) rfl
theorem q1377 : (Jvm.Cond.privateMethod ({ cls := "WhoseGlassModel", name := "wrongKept", desc := "(I)I" } : Jvm.MethodName)) ∈ lw_tbl := lw_at lw_m6 124 rfl
theorem q1378 : (Jvm.Cond.instanceMethod ({ cls := "WhoseGlassModel", name := "wrongKept", desc := "(I)I" } : Jvm.MethodName)) ∈ lw_all := lw_g (lw_at lw_m6 125 rfl) rfl
theorem q1379 : (Jvm.Cond.code ({ cls := "WhoseGlassModel", name := "wrongKept", desc := "(I)I" } : Jvm.MethodName) prog_21_method_41_code (2 : Nat) (Option.some Jvm.ClassFile.FieldType.int)) ∈ lw_all := lw_g (lw_at lw_m6 126 rfl) rfl
theorem q1381 : (Jvm.Cond.instanceMethod ({ cls := "WhoseGlassModel", name := "go", desc := "(II)I" } : Jvm.MethodName)) ∈ lw_all := lw_g (lw_at lw_m6 128 rfl) rfl
theorem q1382 : (Jvm.Cond.selects "WhoseGlassModel" ({ cls := "WhoseGlassModel", name := "go", desc := "(II)I" } : Jvm.MethodName) ({ cls := "WhoseGlassModel", name := "go", desc := "(II)I" } : Jvm.MethodName)) ∈ lw_all := lw_g (lw_at lw_m6 129 rfl) rfl
theorem q1383 : (Jvm.Cond.code ({ cls := "WhoseGlassModel", name := "go", desc := "(II)I" } : Jvm.MethodName) prog_21_method_43_code (4 : Nat) (Option.some Jvm.ClassFile.FieldType.int)) ∈ lw_all := lw_g (lw_at lw_m6 130 rfl) rfl
theorem q1385 : (Jvm.Cond.instanceMethod ({ cls := "WhoseGlassModel", name := "sip", desc := "(I)I" } : Jvm.MethodName)) ∈ lw_all := lw_g (lw_at lw_m6 132 rfl) rfl
theorem q1386 : (Jvm.Cond.selects "WhoseGlassModel" ({ cls := "WhoseGlassModel", name := "sip", desc := "(I)I" } : Jvm.MethodName) ({ cls := "WhoseGlassModel", name := "sip", desc := "(I)I" } : Jvm.MethodName)) ∈ lw_all := lw_g (lw_at lw_m6 133 rfl) rfl
theorem q1387 : (Jvm.Cond.code ({ cls := "WhoseGlassModel", name := "sip", desc := "(I)I" } : Jvm.MethodName) prog_21_method_44_code (2 : Nat) (Option.some Jvm.ClassFile.FieldType.int)) ∈ lw_all := lw_g (lw_at lw_m6 134 rfl) rfl
theorem q1389 : (Jvm.Cond.instanceMethod ({ cls := "WhoseGlassModel", name := "lay", desc := "(I)I" } : Jvm.MethodName)) ∈ lw_all := lw_g (lw_at lw_m6 136 rfl) rfl
theorem q1390 : (Jvm.Cond.selects "WhoseGlassModel" ({ cls := "WhoseGlassModel", name := "lay", desc := "(I)I" } : Jvm.MethodName) ({ cls := "WhoseGlassModel", name := "lay", desc := "(I)I" } : Jvm.MethodName)) ∈ lw_all := lw_g (lw_at lw_m6 137 rfl) rfl
theorem q1391 : (Jvm.Cond.code ({ cls := "WhoseGlassModel", name := "lay", desc := "(I)I" } : Jvm.MethodName) prog_21_method_45_code (2 : Nat) (Option.some Jvm.ClassFile.FieldType.int)) ∈ lw_all := lw_g (lw_at lw_m6 138 rfl) rfl
theorem q1393 : (Jvm.Cond.instanceMethod ({ cls := "WhoseGlassModel", name := "take", desc := "(I)I" } : Jvm.MethodName)) ∈ lw_all := lw_g (lw_at lw_m6 140 rfl) rfl
theorem q1394 : (Jvm.Cond.selects "WhoseGlassModel" ({ cls := "WhoseGlassModel", name := "take", desc := "(I)I" } : Jvm.MethodName) ({ cls := "WhoseGlassModel", name := "take", desc := "(I)I" } : Jvm.MethodName)) ∈ lw_all := lw_g (lw_at lw_m6 141 rfl) rfl
theorem q1395 : (Jvm.Cond.code ({ cls := "WhoseGlassModel", name := "take", desc := "(I)I" } : Jvm.MethodName) prog_21_method_46_code (2 : Nat) (Option.some Jvm.ClassFile.FieldType.int)) ∈ lw_all := lw_g (lw_at lw_m6 142 rfl) rfl
theorem q1397 : (Jvm.Cond.instanceMethod ({ cls := "WhoseGlassModel", name := "fill", desc := "(I)I" } : Jvm.MethodName)) ∈ lw_all := lw_g (lw_at lw_m6 144 rfl) rfl
theorem q1398 : (Jvm.Cond.selects "WhoseGlassModel" ({ cls := "WhoseGlassModel", name := "fill", desc := "(I)I" } : Jvm.MethodName) ({ cls := "WhoseGlassModel", name := "fill", desc := "(I)I" } : Jvm.MethodName)) ∈ lw_all := lw_g (lw_at lw_m6 145 rfl) rfl
theorem q1399 : (Jvm.Cond.code ({ cls := "WhoseGlassModel", name := "fill", desc := "(I)I" } : Jvm.MethodName) prog_21_method_47_code (5 : Nat) (Option.some Jvm.ClassFile.FieldType.int)) ∈ lw_all := lw_g (lw_at lw_m6 146 rfl) rfl
theorem q1401 : (Jvm.Cond.instanceMethod ({ cls := "WhoseGlassModel", name := "clear", desc := "(II)I" } : Jvm.MethodName)) ∈ lw_all := lw_g (lw_at lw_m6 148 rfl) rfl
theorem q1402 : (Jvm.Cond.selects "WhoseGlassModel" ({ cls := "WhoseGlassModel", name := "clear", desc := "(II)I" } : Jvm.MethodName) ({ cls := "WhoseGlassModel", name := "clear", desc := "(II)I" } : Jvm.MethodName)) ∈ lw_all := lw_g (lw_at lw_m6 149 rfl) rfl
theorem q1403 : (Jvm.Cond.code ({ cls := "WhoseGlassModel", name := "clear", desc := "(II)I" } : Jvm.MethodName) prog_21_method_49_code (5 : Nat) (Option.some Jvm.ClassFile.FieldType.int)) ∈ lw_all := lw_g (lw_at lw_m6 150 rfl) rfl
theorem q1404 : (Jvm.Cond.constantLong "WhoseGlassModel" (271 : Nat) (99 : Int64)) ∈ lw_all := lw_g (lw_at lw_m6 151 rfl) rfl
theorem q1405 : (Jvm.Cond.methodLink "WhoseGlassModel" (273 : Nat) ({ cls := "WhoseGlassModel", name := "sink", desc := "(I)V" } : Jvm.MethodName)) ∈ lw_all := lw_g (lw_at lw_m6 152 rfl) rfl
theorem q1406 : (Jvm.Cond.privateMethod ({ cls := "WhoseGlassModel", name := "sink", desc := "(I)V" } : Jvm.MethodName)) ∈ lw_tbl := lw_at lw_m6 153 rfl
theorem q1407 : (Jvm.Cond.instanceMethod ({ cls := "WhoseGlassModel", name := "sink", desc := "(I)V" } : Jvm.MethodName)) ∈ lw_all := lw_g (lw_at lw_m6 154 rfl) rfl
theorem q1408 : (Jvm.Cond.code ({ cls := "WhoseGlassModel", name := "sink", desc := "(I)V" } : Jvm.MethodName) prog_21_method_48_code (2 : Nat) (Option.none : Option Jvm.ClassFile.FieldType)) ∈ lw_all := lw_g (lw_at lw_m6 155 rfl) rfl
theorem q1410 : (Jvm.Cond.instanceMethod ({ cls := "WhoseGlassModel", name := "minutes", desc := "(I)I" } : Jvm.MethodName)) ∈ lw_all := lw_g (lw_at lw_m6 157 rfl) rfl
theorem q1411 : (Jvm.Cond.selects "WhoseGlassModel" ({ cls := "WhoseGlassModel", name := "minutes", desc := "(I)I" } : Jvm.MethodName) ({ cls := "WhoseGlassModel", name := "minutes", desc := "(I)I" } : Jvm.MethodName)) ∈ lw_all := lw_g (lw_at lw_m6 158 rfl) rfl
theorem q1412 : (Jvm.Cond.code ({ cls := "WhoseGlassModel", name := "minutes", desc := "(I)I" } : Jvm.MethodName) prog_21_method_50_code (2 : Nat) (Option.some Jvm.ClassFile.FieldType.int)) ∈ lw_all := lw_g (lw_at lw_m6 159 rfl) rfl
theorem q1413 : (Jvm.Cond.methodLink "WhoseGlassModel" (276 : Nat) ({ cls := "WhoseGlassModel", name := "goThrough", desc := "(I)V" } : Jvm.MethodName)) ∈ lw_all := lw_g (lw_at lw_m6 160 rfl) rfl
theorem q1414 : (Jvm.Cond.privateMethod ({ cls := "WhoseGlassModel", name := "goThrough", desc := "(I)V" } : Jvm.MethodName)) ∈ lw_tbl := lw_at lw_m6 161 rfl
theorem q1415 : (Jvm.Cond.instanceMethod ({ cls := "WhoseGlassModel", name := "goThrough", desc := "(I)V" } : Jvm.MethodName)) ∈ lw_all := lw_g (lw_at lw_m6 162 rfl) rfl
theorem q1416 : (Jvm.Cond.code ({ cls := "WhoseGlassModel", name := "goThrough", desc := "(I)V" } : Jvm.MethodName) prog_21_method_27_code (3 : Nat) (Option.none : Option Jvm.ClassFile.FieldType)) ∈ lw_all := lw_g (lw_at lw_m6 163 rfl) rfl
theorem q1418 : (Jvm.Cond.instanceMethod ({ cls := "WhoseGlassModel", name := "like", desc := "(II)I" } : Jvm.MethodName)) ∈ lw_all := lw_g (lw_at lw_m6 165 rfl) rfl
theorem q1419 : (Jvm.Cond.selects "WhoseGlassModel" ({ cls := "WhoseGlassModel", name := "like", desc := "(II)I" } : Jvm.MethodName) ({ cls := "WhoseGlassModel", name := "like", desc := "(II)I" } : Jvm.MethodName)) ∈ lw_all := lw_g (lw_at lw_m6 166 rfl) rfl
theorem q1420 : (Jvm.Cond.code ({ cls := "WhoseGlassModel", name := "like", desc := "(II)I" } : Jvm.MethodName) prog_21_method_51_code (3 : Nat) (Option.some Jvm.ClassFile.FieldType.int)) ∈ lw_all := lw_g (lw_at lw_m6 167 rfl) rfl
theorem q1422 : (Jvm.Cond.instanceMethod ({ cls := "WhoseGlassModel", name := "mine", desc := "(I)I" } : Jvm.MethodName)) ∈ lw_all := lw_g (lw_at lw_m6 169 rfl) rfl
theorem q1423 : (Jvm.Cond.selects "WhoseGlassModel" ({ cls := "WhoseGlassModel", name := "mine", desc := "(I)I" } : Jvm.MethodName) ({ cls := "WhoseGlassModel", name := "mine", desc := "(I)I" } : Jvm.MethodName)) ∈ lw_all := lw_g (lw_at lw_m6 170 rfl) rfl
theorem q1424 : (Jvm.Cond.code ({ cls := "WhoseGlassModel", name := "mine", desc := "(I)I" } : Jvm.MethodName) prog_21_method_52_code (2 : Nat) (Option.some Jvm.ClassFile.FieldType.int)) ∈ lw_all := lw_g (lw_at lw_m6 171 rfl) rfl
theorem q1426 : (Jvm.Cond.instanceMethod ({ cls := "WhoseGlassModel", name := "likely", desc := "(III)I" } : Jvm.MethodName)) ∈ lw_all := lw_g (lw_at lw_m6 173 rfl) rfl
theorem q1427 : (Jvm.Cond.selects "WhoseGlassModel" ({ cls := "WhoseGlassModel", name := "likely", desc := "(III)I" } : Jvm.MethodName) ({ cls := "WhoseGlassModel", name := "likely", desc := "(III)I" } : Jvm.MethodName)) ∈ lw_all := lw_g (lw_at lw_m6 174 rfl) rfl
theorem q1428 : (Jvm.Cond.code ({ cls := "WhoseGlassModel", name := "likely", desc := "(III)I" } : Jvm.MethodName) prog_21_method_54_code (7 : Nat) (Option.some Jvm.ClassFile.FieldType.int)) ∈ lw_all := lw_g (lw_at lw_m6 175 rfl) rfl
theorem q1429 : (Jvm.Cond.methodLink "WhoseGlassModel" (279 : Nat) ({ cls := "WhoseGlassModel", name := "divisor", desc := "(II)I" } : Jvm.MethodName)) ∈ lw_all := lw_g (lw_at lw_m6 176 rfl) rfl
theorem q1430 : (Jvm.Cond.static ({ cls := "WhoseGlassModel", name := "divisor", desc := "(II)I" } : Jvm.MethodName)) ∈ lw_all := lw_g (lw_at lw_m6 177 rfl) rfl
theorem q1431 : (Jvm.Cond.code ({ cls := "WhoseGlassModel", name := "divisor", desc := "(II)I" } : Jvm.MethodName) prog_21_method_53_code (5 : Nat) (Option.some Jvm.ClassFile.FieldType.int)) ∈ lw_all := lw_g (lw_at lw_m6 178 rfl) rfl
theorem q1433 : (Jvm.Cond.instanceMethod ({ cls := "WhoseGlassModel", name := "idle", desc := "(I)I" } : Jvm.MethodName)) ∈ lw_all := lw_g (lw_at lw_m6 180 rfl) rfl
theorem q1434 : (Jvm.Cond.selects "WhoseGlassModel" ({ cls := "WhoseGlassModel", name := "idle", desc := "(I)I" } : Jvm.MethodName) ({ cls := "WhoseGlassModel", name := "idle", desc := "(I)I" } : Jvm.MethodName)) ∈ lw_all := lw_g (lw_at lw_m6 181 rfl) rfl
theorem q1435 : (Jvm.Cond.code ({ cls := "WhoseGlassModel", name := "idle", desc := "(I)I" } : Jvm.MethodName) prog_21_method_55_code (6 : Nat) (Option.some Jvm.ClassFile.FieldType.int)) ∈ lw_all := lw_g (lw_at lw_m6 182 rfl) rfl
theorem q1437 : (Jvm.Cond.instanceMethod ({ cls := "WhoseGlassModel", name := "oldest", desc := "(I)I" } : Jvm.MethodName)) ∈ lw_all := lw_g (lw_at lw_m6 184 rfl) rfl
theorem q1438 : (Jvm.Cond.selects "WhoseGlassModel" ({ cls := "WhoseGlassModel", name := "oldest", desc := "(I)I" } : Jvm.MethodName) ({ cls := "WhoseGlassModel", name := "oldest", desc := "(I)I" } : Jvm.MethodName)) ∈ lw_all := lw_g (lw_at lw_m6 185 rfl) rfl
theorem q1439 : (Jvm.Cond.code ({ cls := "WhoseGlassModel", name := "oldest", desc := "(I)I" } : Jvm.MethodName) prog_21_method_56_code (4 : Nat) (Option.some Jvm.ClassFile.FieldType.int)) ∈ lw_all := lw_g (lw_at lw_m6 186 rfl) rfl
theorem q1441 : (Jvm.Cond.instanceMethod ({ cls := "WhoseGlassModel", name := "mistakes", desc := "(I)I" } : Jvm.MethodName)) ∈ lw_all := lw_g (lw_at lw_m6 188 rfl) rfl
theorem q1442 : (Jvm.Cond.selects "WhoseGlassModel" ({ cls := "WhoseGlassModel", name := "mistakes", desc := "(I)I" } : Jvm.MethodName) ({ cls := "WhoseGlassModel", name := "mistakes", desc := "(I)I" } : Jvm.MethodName)) ∈ lw_all := lw_g (lw_at lw_m6 189 rfl) rfl
theorem q1443 : (Jvm.Cond.code ({ cls := "WhoseGlassModel", name := "mistakes", desc := "(I)I" } : Jvm.MethodName) prog_21_method_58_code (2 : Nat) (Option.some Jvm.ClassFile.FieldType.int)) ∈ lw_all := lw_g (lw_at lw_m6 190 rfl) rfl
theorem q1444 : (Jvm.Cond.methodLink "WhoseGlassModel" (282 : Nat) ({ cls := "WhoseGlassModel", name := "isMinutes", desc := "(I)Z" } : Jvm.MethodName)) ∈ lw_all := lw_g (lw_at lw_m6 191 rfl) rfl
theorem q1445 : (Jvm.Cond.static ({ cls := "WhoseGlassModel", name := "isMinutes", desc := "(I)Z" } : Jvm.MethodName)) ∈ lw_all := lw_g (lw_at lw_m6 192 rfl) rfl
theorem q1446 : (Jvm.Cond.code ({ cls := "WhoseGlassModel", name := "isMinutes", desc := "(I)Z" } : Jvm.MethodName) prog_21_method_7_code (1 : Nat) (Option.some Jvm.ClassFile.FieldType.boolean)) ∈ lw_all := lw_g (lw_at lw_m6 193 rfl) rfl
theorem q1447 : (Jvm.Cond.constantLong "WhoseGlassModel" (117 : Nat) (60 : Int64)) ∈ lw_all := lw_g (lw_at lw_m6 194 rfl) rfl
theorem q1449 : (Jvm.Cond.instanceMethod ({ cls := "WhoseGlassModel", name := "fresh", desc := "(I)I" } : Jvm.MethodName)) ∈ lw_all := lw_g (lw_at lw_m6 196 rfl) rfl
theorem q1450 : (Jvm.Cond.selects "WhoseGlassModel" ({ cls := "WhoseGlassModel", name := "fresh", desc := "(I)I" } : Jvm.MethodName) ({ cls := "WhoseGlassModel", name := "fresh", desc := "(I)I" } : Jvm.MethodName)) ∈ lw_all := lw_g (lw_at lw_m6 197 rfl) rfl
theorem q1451 : (Jvm.Cond.code ({ cls := "WhoseGlassModel", name := "fresh", desc := "(I)I" } : Jvm.MethodName) prog_21_method_59_code (2 : Nat) (Option.some Jvm.ClassFile.FieldType.int)) ∈ lw_all := lw_g (lw_at lw_m6 198 rfl) rfl
theorem q1453 : (Jvm.Cond.instanceMethod ({ cls := "WhoseGlassModel", name := "colds", desc := "(I)I" } : Jvm.MethodName)) ∈ lw_all := lw_g (lw_at lw_m6 200 rfl) rfl
theorem q1454 : (Jvm.Cond.selects "WhoseGlassModel" ({ cls := "WhoseGlassModel", name := "colds", desc := "(I)I" } : Jvm.MethodName) ({ cls := "WhoseGlassModel", name := "colds", desc := "(I)I" } : Jvm.MethodName)) ∈ lw_all := lw_g (lw_at lw_m6 201 rfl) rfl
theorem q1455 : (Jvm.Cond.code ({ cls := "WhoseGlassModel", name := "colds", desc := "(I)I" } : Jvm.MethodName) prog_21_method_60_code (3 : Nat) (Option.some Jvm.ClassFile.FieldType.int)) ∈ lw_all := lw_g (lw_at lw_m6 202 rfl) rfl
theorem q1456 : (Jvm.Cond.methodLink "WhoseGlassModel" (285 : Nat) ({ cls := "WhoseGlassModel", name := "coldBits", desc := "()I" } : Jvm.MethodName)) ∈ lw_all := lw_g (lw_at lw_m6 203 rfl) rfl
theorem q1457 : (Jvm.Cond.privateMethod ({ cls := "WhoseGlassModel", name := "coldBits", desc := "()I" } : Jvm.MethodName)) ∈ lw_tbl := lw_at lw_m6 204 rfl
theorem q1458 : (Jvm.Cond.instanceMethod ({ cls := "WhoseGlassModel", name := "coldBits", desc := "()I" } : Jvm.MethodName)) ∈ lw_all := lw_g (lw_at lw_m6 205 rfl) rfl
theorem q1459 : (Jvm.Cond.code ({ cls := "WhoseGlassModel", name := "coldBits", desc := "()I" } : Jvm.MethodName) prog_21_method_57_code (3 : Nat) (Option.some Jvm.ClassFile.FieldType.int)) ∈ lw_all := lw_g (lw_at lw_m6 206 rfl) rfl
theorem q1461 : (Jvm.Cond.instanceMethod ({ cls := "WhoseGlassModel", name := "had", desc := "(II)I" } : Jvm.MethodName)) ∈ lw_all := lw_g (lw_at lw_m6 208 rfl) rfl
theorem q1462 : (Jvm.Cond.selects "WhoseGlassModel" ({ cls := "WhoseGlassModel", name := "had", desc := "(II)I" } : Jvm.MethodName) ({ cls := "WhoseGlassModel", name := "had", desc := "(II)I" } : Jvm.MethodName)) ∈ lw_all := lw_g (lw_at lw_m6 209 rfl) rfl
theorem q1463 : (Jvm.Cond.code ({ cls := "WhoseGlassModel", name := "had", desc := "(II)I" } : Jvm.MethodName) prog_21_method_61_code (4 : Nat) (Option.some Jvm.ClassFile.FieldType.int)) ∈ lw_all := lw_g (lw_at lw_m6 210 rfl) rfl
theorem q1465 : (Jvm.Cond.instanceMethod ({ cls := "WhoseGlassModel", name := "where", desc := "(II)I" } : Jvm.MethodName)) ∈ lw_all := lw_g (lw_at lw_m6 212 rfl) rfl
theorem q1466 : (Jvm.Cond.selects "WhoseGlassModel" ({ cls := "WhoseGlassModel", name := "where", desc := "(II)I" } : Jvm.MethodName) ({ cls := "WhoseGlassModel", name := "where", desc := "(II)I" } : Jvm.MethodName)) ∈ lw_all := lw_g (lw_at lw_m6 213 rfl) rfl
theorem q1467 : (Jvm.Cond.code ({ cls := "WhoseGlassModel", name := "where", desc := "(II)I" } : Jvm.MethodName) prog_21_method_62_code (4 : Nat) (Option.some Jvm.ClassFile.FieldType.int)) ∈ lw_all := lw_g (lw_at lw_m6 214 rfl) rfl
theorem q1469 : (Jvm.Cond.instanceMethod ({ cls := "WhoseGlassModel", name := "brought", desc := "(II)I" } : Jvm.MethodName)) ∈ lw_all := lw_g (lw_at lw_m6 216 rfl) rfl
theorem q1470 : (Jvm.Cond.selects "WhoseGlassModel" ({ cls := "WhoseGlassModel", name := "brought", desc := "(II)I" } : Jvm.MethodName) ({ cls := "WhoseGlassModel", name := "brought", desc := "(II)I" } : Jvm.MethodName)) ∈ lw_all := lw_g (lw_at lw_m6 217 rfl) rfl
theorem q1471 : (Jvm.Cond.code ({ cls := "WhoseGlassModel", name := "brought", desc := "(II)I" } : Jvm.MethodName) prog_21_method_64_code (5 : Nat) (Option.some Jvm.ClassFile.FieldType.int)) ∈ lw_all := lw_g (lw_at lw_m6 218 rfl) rfl
theorem q1472 : (Jvm.Cond.methodLink "WhoseGlassModel" (288 : Nat) ({ cls := "WhoseGlassModel", name := "coldAlone", desc := "(I)V" } : Jvm.MethodName)) ∈ lw_all := lw_g (lw_at lw_m6 219 rfl) rfl
theorem q1473 : (Jvm.Cond.privateMethod ({ cls := "WhoseGlassModel", name := "coldAlone", desc := "(I)V" } : Jvm.MethodName)) ∈ lw_tbl := lw_at lw_m6 220 rfl
theorem q1474 : (Jvm.Cond.instanceMethod ({ cls := "WhoseGlassModel", name := "coldAlone", desc := "(I)V" } : Jvm.MethodName)) ∈ lw_all := lw_g (lw_at lw_m6 221 rfl) rfl
theorem q1475 : (Jvm.Cond.code ({ cls := "WhoseGlassModel", name := "coldAlone", desc := "(I)V" } : Jvm.MethodName) prog_21_method_63_code (3 : Nat) (Option.none : Option Jvm.ClassFile.FieldType)) ∈ lw_all := lw_g (lw_at lw_m6 222 rfl) rfl
theorem q1477 : (Jvm.Cond.instanceMethod ({ cls := "WhoseGlassModel", name := "particular", desc := "(I)I" } : Jvm.MethodName)) ∈ lw_all := lw_g (lw_at lw_m6 224 rfl) rfl
theorem q1478 : (Jvm.Cond.selects "WhoseGlassModel" ({ cls := "WhoseGlassModel", name := "particular", desc := "(I)I" } : Jvm.MethodName) ({ cls := "WhoseGlassModel", name := "particular", desc := "(I)I" } : Jvm.MethodName)) ∈ lw_all := lw_g (lw_at lw_m6 225 rfl) rfl
theorem q1479 : (Jvm.Cond.code ({ cls := "WhoseGlassModel", name := "particular", desc := "(I)I" } : Jvm.MethodName) prog_21_method_65_code (6 : Nat) (Option.some Jvm.ClassFile.FieldType.int)) ∈ lw_all := lw_g (lw_at lw_m6 226 rfl) rfl
theorem q1481 : (Jvm.Cond.instanceMethod ({ cls := "WhoseGlassModel", name := "mark", desc := "(I)I" } : Jvm.MethodName)) ∈ lw_all := lw_g (lw_at lw_m6 228 rfl) rfl
theorem q1482 : (Jvm.Cond.selects "WhoseGlassModel" ({ cls := "WhoseGlassModel", name := "mark", desc := "(I)I" } : Jvm.MethodName) ({ cls := "WhoseGlassModel", name := "mark", desc := "(I)I" } : Jvm.MethodName)) ∈ lw_all := lw_g (lw_at lw_m6 229 rfl) rfl
theorem q1483 : (Jvm.Cond.code ({ cls := "WhoseGlassModel", name := "mark", desc := "(I)I" } : Jvm.MethodName) prog_21_method_66_code (6 : Nat) (Option.some Jvm.ClassFile.FieldType.int)) ∈ lw_all := lw_g (lw_at lw_m6 230 rfl) rfl
theorem q1485 : (Jvm.Cond.instanceMethod ({ cls := "WhoseGlassModel", name := "close", desc := "(I)I" } : Jvm.MethodName)) ∈ lw_all := lw_g (lw_at lw_m6 232 rfl) rfl
theorem q1486 : (Jvm.Cond.selects "WhoseGlassModel" ({ cls := "WhoseGlassModel", name := "close", desc := "(I)I" } : Jvm.MethodName) ({ cls := "WhoseGlassModel", name := "close", desc := "(I)I" } : Jvm.MethodName)) ∈ lw_all := lw_g (lw_at lw_m6 233 rfl) rfl
theorem q1487 : (Jvm.Cond.code ({ cls := "WhoseGlassModel", name := "close", desc := "(I)I" } : Jvm.MethodName) prog_21_method_67_code (5 : Nat) (Option.some Jvm.ClassFile.FieldType.int)) ∈ lw_all := lw_g (lw_at lw_m6 234 rfl) rfl
theorem q1489 : (Jvm.Cond.instanceMethod ({ cls := "WhoseGlassModel", name := "driver", desc := "(I)I" } : Jvm.MethodName)) ∈ lw_all := lw_g (lw_at lw_m6 236 rfl) rfl
theorem q1490 : (Jvm.Cond.selects "WhoseGlassModel" ({ cls := "WhoseGlassModel", name := "driver", desc := "(I)I" } : Jvm.MethodName) ({ cls := "WhoseGlassModel", name := "driver", desc := "(I)I" } : Jvm.MethodName)) ∈ lw_all := lw_g (lw_at lw_m6 237 rfl) rfl
theorem q1491 : (Jvm.Cond.code ({ cls := "WhoseGlassModel", name := "driver", desc := "(I)I" } : Jvm.MethodName) prog_21_method_68_code (4 : Nat) (Option.some Jvm.ClassFile.FieldType.int)) ∈ lw_all := lw_g (lw_at lw_m6 238 rfl) rfl
theorem q1493 : (Jvm.Cond.instanceMethod ({ cls := "WhoseGlassModel", name := "full", desc := "()I" } : Jvm.MethodName)) ∈ lw_all := lw_g (lw_at lw_m7 0 rfl) rfl
theorem q1494 : (Jvm.Cond.selects "WhoseGlassModel" ({ cls := "WhoseGlassModel", name := "full", desc := "()I" } : Jvm.MethodName) ({ cls := "WhoseGlassModel", name := "full", desc := "()I" } : Jvm.MethodName)) ∈ lw_all := lw_g (lw_at lw_m7 1 rfl) rfl
theorem q1495 : (Jvm.Cond.code ({ cls := "WhoseGlassModel", name := "full", desc := "()I" } : Jvm.MethodName) prog_21_method_70_code (3 : Nat) (Option.some Jvm.ClassFile.FieldType.int)) ∈ lw_all := lw_g (lw_at lw_m7 2 rfl) rfl
theorem q1496 : (Jvm.Cond.methodLink "WhoseGlassModel" (291 : Nat) ({ cls := "WhoseGlassModel", name := "isSomeEmpty", desc := "()Z" } : Jvm.MethodName)) ∈ lw_all := lw_g (lw_at lw_m7 3 rfl) rfl
theorem q1497 : (Jvm.Cond.privateMethod ({ cls := "WhoseGlassModel", name := "isSomeEmpty", desc := "()Z" } : Jvm.MethodName)) ∈ lw_tbl := lw_at lw_m7 4 rfl
theorem q1498 : (Jvm.Cond.instanceMethod ({ cls := "WhoseGlassModel", name := "isSomeEmpty", desc := "()Z" } : Jvm.MethodName)) ∈ lw_all := lw_g (lw_at lw_m7 5 rfl) rfl
theorem q1499 : (Jvm.Cond.code ({ cls := "WhoseGlassModel", name := "isSomeEmpty", desc := "()Z" } : Jvm.MethodName) prog_21_method_69_code (3 : Nat) (Option.some Jvm.ClassFile.FieldType.boolean)) ∈ lw_all := lw_g (lw_at lw_m7 6 rfl) rfl
theorem q1501 : (Jvm.Cond.instanceMethod ({ cls := "WhoseGlassModel", name := "seeded", desc := "(III)I" } : Jvm.MethodName)) ∈ lw_all := lw_g (lw_at lw_m7 8 rfl) rfl
theorem q1502 : (Jvm.Cond.selects "WhoseGlassModel" ({ cls := "WhoseGlassModel", name := "seeded", desc := "(III)I" } : Jvm.MethodName) ({ cls := "WhoseGlassModel", name := "seeded", desc := "(III)I" } : Jvm.MethodName)) ∈ lw_all := lw_g (lw_at lw_m7 9 rfl) rfl
theorem q1503 : (Jvm.Cond.code ({ cls := "WhoseGlassModel", name := "seeded", desc := "(III)I" } : Jvm.MethodName) prog_21_method_72_code (6 : Nat) (Option.some Jvm.ClassFile.FieldType.int)) ∈ lw_all := lw_g (lw_at lw_m7 10 rfl) rfl
theorem q1504 : (Jvm.Cond.constantLong "WhoseGlassModel" (301 : Nat) (30 : Int64)) ∈ lw_all := lw_g (lw_at lw_m7 11 rfl) rfl
theorem q1505 : (Jvm.Cond.methodLink "WhoseGlassModel" (303 : Nat) ({ cls := "WhoseGlassModel", name := "draw", desc := "(I)I" } : Jvm.MethodName)) ∈ lw_all := lw_g (lw_at lw_m7 12 rfl) rfl
theorem q1506 : (Jvm.Cond.privateMethod ({ cls := "WhoseGlassModel", name := "draw", desc := "(I)I" } : Jvm.MethodName)) ∈ lw_tbl := lw_at lw_m7 13 rfl
theorem q1507 : (Jvm.Cond.instanceMethod ({ cls := "WhoseGlassModel", name := "draw", desc := "(I)I" } : Jvm.MethodName)) ∈ lw_all := lw_g (lw_at lw_m7 14 rfl) rfl
theorem q1508 : (Jvm.Cond.code ({ cls := "WhoseGlassModel", name := "draw", desc := "(I)I" } : Jvm.MethodName) prog_21_method_71_code (2 : Nat) (Option.some Jvm.ClassFile.FieldType.int)) ∈ lw_all := lw_g (lw_at lw_m7 15 rfl) rfl
theorem q1509 : (Jvm.Cond.constant "WhoseGlassModel" (298 : Nat) (1103515245 : Int32)) ∈ lw_all := lw_g (lw_at lw_m7 16 rfl) rfl
theorem q1510 : (Jvm.Cond.constant "WhoseGlassModel" (299 : Nat) (2147483647 : Int32)) ∈ lw_all := lw_g (lw_at lw_m7 17 rfl) rfl
theorem q1511 : (Jvm.Cond.constant "WhoseGlassModel" (300 : Nat) (65536 : Int32)) ∈ lw_all := lw_g (lw_at lw_m7 18 rfl) rfl
theorem q1513 : (Jvm.Cond.instanceMethod ({ cls := "WhoseGlassModel", name := "judge", desc := "(II)I" } : Jvm.MethodName)) ∈ lw_all := lw_g (lw_at lw_m7 20 rfl) rfl
theorem q1514 : (Jvm.Cond.selects "WhoseGlassModel" ({ cls := "WhoseGlassModel", name := "judge", desc := "(II)I" } : Jvm.MethodName) ({ cls := "WhoseGlassModel", name := "judge", desc := "(II)I" } : Jvm.MethodName)) ∈ lw_all := lw_g (lw_at lw_m7 21 rfl) rfl
theorem q1515 : (Jvm.Cond.code ({ cls := "WhoseGlassModel", name := "judge", desc := "(II)I" } : Jvm.MethodName) prog_21_method_74_code (8 : Nat) (Option.some Jvm.ClassFile.FieldType.int)) ∈ lw_all := lw_g (lw_at lw_m7 22 rfl) rfl
theorem q1516 : (Jvm.Cond.methodLink "WhoseGlassModel" (315 : Nat) ({ cls := "WhoseGlassModel", name := "skippedIn", desc := "(I)J" } : Jvm.MethodName)) ∈ lw_all := lw_g (lw_at lw_m7 23 rfl) rfl
theorem q1517 : (Jvm.Cond.privateMethod ({ cls := "WhoseGlassModel", name := "skippedIn", desc := "(I)J" } : Jvm.MethodName)) ∈ lw_tbl := lw_at lw_m7 24 rfl
theorem q1518 : (Jvm.Cond.instanceMethod ({ cls := "WhoseGlassModel", name := "skippedIn", desc := "(I)J" } : Jvm.MethodName)) ∈ lw_all := lw_g (lw_at lw_m7 25 rfl) rfl
theorem q1519 : (Jvm.Cond.code ({ cls := "WhoseGlassModel", name := "skippedIn", desc := "(I)J" } : Jvm.MethodName) prog_21_method_73_code (2 : Nat) (Option.some Jvm.ClassFile.FieldType.long)) ∈ lw_all := lw_g (lw_at lw_m7 26 rfl) rfl
theorem q1520 : (Jvm.Cond.constantLong "WhoseGlassModel" (306 : Nat) (-128 : Int64)) ∈ lw_all := lw_g (lw_at lw_m7 27 rfl) rfl
theorem q1521 : (Jvm.Cond.constantLong "WhoseGlassModel" (308 : Nat) (-32768 : Int64)) ∈ lw_all := lw_g (lw_at lw_m7 28 rfl) rfl
theorem q1522 : (Jvm.Cond.constantLong "WhoseGlassModel" (310 : Nat) (-2147483648 : Int64)) ∈ lw_all := lw_g (lw_at lw_m7 29 rfl) rfl
theorem q1524 : (Jvm.Cond.instanceMethod ({ cls := "WhoseGlassModel", name := "count", desc := "(I)I" } : Jvm.MethodName)) ∈ lw_all := lw_g (lw_at lw_m7 31 rfl) rfl
theorem q1525 : (Jvm.Cond.selects "WhoseGlassModel" ({ cls := "WhoseGlassModel", name := "count", desc := "(I)I" } : Jvm.MethodName) ({ cls := "WhoseGlassModel", name := "count", desc := "(I)I" } : Jvm.MethodName)) ∈ lw_all := lw_g (lw_at lw_m7 32 rfl) rfl
theorem q1526 : (Jvm.Cond.code ({ cls := "WhoseGlassModel", name := "count", desc := "(I)I" } : Jvm.MethodName) prog_21_method_75_code (5 : Nat) (Option.some Jvm.ClassFile.FieldType.int)) ∈ lw_all := lw_g (lw_at lw_m7 33 rfl) rfl
theorem q1528 : (Jvm.Cond.instanceMethod ({ cls := "WhoseGlassModel", name := "keep", desc := "(IIII)I" } : Jvm.MethodName)) ∈ lw_all := lw_g (lw_at lw_m7 35 rfl) rfl
theorem q1529 : (Jvm.Cond.selects "WhoseGlassModel" ({ cls := "WhoseGlassModel", name := "keep", desc := "(IIII)I" } : Jvm.MethodName) ({ cls := "WhoseGlassModel", name := "keep", desc := "(IIII)I" } : Jvm.MethodName)) ∈ lw_all := lw_g (lw_at lw_m7 36 rfl) rfl
theorem q1530 : (Jvm.Cond.code ({ cls := "WhoseGlassModel", name := "keep", desc := "(IIII)I" } : Jvm.MethodName) prog_21_method_77_code (5 : Nat) (Option.some Jvm.ClassFile.FieldType.int)) ∈ lw_all := lw_g (lw_at lw_m7 37 rfl) rfl
theorem q1531 : (Jvm.Cond.constantLong "WhoseGlassModel" (319 : Nat) (9 : Int64)) ∈ lw_all := lw_g (lw_at lw_m7 38 rfl) rfl
theorem q1533 : (Jvm.Cond.instanceMethod ({ cls := "WhoseGlassModel", name := "row", desc := "(III)I" } : Jvm.MethodName)) ∈ lw_all := lw_g (lw_at lw_m7 40 rfl) rfl
theorem q1534 : (Jvm.Cond.selects "WhoseGlassModel" ({ cls := "WhoseGlassModel", name := "row", desc := "(III)I" } : Jvm.MethodName) ({ cls := "WhoseGlassModel", name := "row", desc := "(III)I" } : Jvm.MethodName)) ∈ lw_all := lw_g (lw_at lw_m7 41 rfl) rfl
theorem q1535 : (Jvm.Cond.code ({ cls := "WhoseGlassModel", name := "row", desc := "(III)I" } : Jvm.MethodName) prog_21_method_80_code (5 : Nat) (Option.some Jvm.ClassFile.FieldType.int)) ∈ lw_all := lw_g (lw_at lw_m7 42 rfl) rfl
theorem q1536 : (Jvm.Cond.constantLong "WhoseGlassModel" (321 : Nat) (2 : Int64)) ∈ lw_all := lw_g (lw_at lw_m7 43 rfl) rfl
theorem q1538 : (Jvm.Cond.instanceMethod ({ cls := "WhoseGlassModel", name := "put", desc := "(III)I" } : Jvm.MethodName)) ∈ lw_all := lw_g (lw_at lw_m7 45 rfl) rfl
theorem q1539 : (Jvm.Cond.selects "WhoseGlassModel" ({ cls := "WhoseGlassModel", name := "put", desc := "(III)I" } : Jvm.MethodName) ({ cls := "WhoseGlassModel", name := "put", desc := "(III)I" } : Jvm.MethodName)) ∈ lw_all := lw_g (lw_at lw_m7 46 rfl) rfl
theorem q1540 : (Jvm.Cond.code ({ cls := "WhoseGlassModel", name := "put", desc := "(III)I" } : Jvm.MethodName) prog_21_method_81_code (5 : Nat) (Option.some Jvm.ClassFile.FieldType.int)) ∈ lw_all := lw_g (lw_at lw_m7 47 rfl) rfl
theorem q1541 : (Jvm.Cond.methodLink "WhoseGlassModel" (323 : Nat) ({ cls := "WhoseGlassModel", name := "narrowed", desc := "(II)J" } : Jvm.MethodName)) ∈ lw_all := lw_g (lw_at lw_m7 48 rfl) rfl
theorem q1542 : (Jvm.Cond.static ({ cls := "WhoseGlassModel", name := "narrowed", desc := "(II)J" } : Jvm.MethodName)) ∈ lw_all := lw_g (lw_at lw_m7 49 rfl) rfl
theorem q1543 : (Jvm.Cond.code ({ cls := "WhoseGlassModel", name := "narrowed", desc := "(II)J" } : Jvm.MethodName) prog_21_method_79_code (2 : Nat) (Option.some Jvm.ClassFile.FieldType.long)) ∈ lw_all := lw_g (lw_at lw_m7 50 rfl) rfl
theorem q1545 : (Jvm.Cond.instanceMethod ({ cls := "WhoseGlassModel", name := "element", desc := "(II)J" } : Jvm.MethodName)) ∈ lw_all := lw_g (lw_at lw_m7 52 rfl) rfl
theorem q1546 : (Jvm.Cond.selects "WhoseGlassModel" ({ cls := "WhoseGlassModel", name := "element", desc := "(II)J" } : Jvm.MethodName) ({ cls := "WhoseGlassModel", name := "element", desc := "(II)J" } : Jvm.MethodName)) ∈ lw_all := lw_g (lw_at lw_m7 53 rfl) rfl
theorem q1547 : (Jvm.Cond.code ({ cls := "WhoseGlassModel", name := "element", desc := "(II)J" } : Jvm.MethodName) prog_21_method_82_code (4 : Nat) (Option.some Jvm.ClassFile.FieldType.long)) ∈ lw_all := lw_g (lw_at lw_m7 54 rfl) rfl
theorem q1549 : (Jvm.Cond.instanceMethod ({ cls := "WhoseGlassModel", name := "copy", desc := "(IIIII)I" } : Jvm.MethodName)) ∈ lw_all := lw_g (lw_at lw_m7 56 rfl) rfl
theorem q1550 : (Jvm.Cond.selects "WhoseGlassModel" ({ cls := "WhoseGlassModel", name := "copy", desc := "(IIIII)I" } : Jvm.MethodName) ({ cls := "WhoseGlassModel", name := "copy", desc := "(IIIII)I" } : Jvm.MethodName)) ∈ lw_all := lw_g (lw_at lw_m7 57 rfl) rfl
theorem q1551 : (Jvm.Cond.code ({ cls := "WhoseGlassModel", name := "copy", desc := "(IIIII)I" } : Jvm.MethodName) prog_21_method_83_code (7 : Nat) (Option.some Jvm.ClassFile.FieldType.int)) ∈ lw_all := lw_g (lw_at lw_m7 58 rfl) rfl
theorem q1553 : (Jvm.Cond.instanceMethod ({ cls := "WhoseGlassModel", name := "cost", desc := "(I)I" } : Jvm.MethodName)) ∈ lw_all := lw_g (lw_at lw_m7 60 rfl) rfl
theorem q1554 : (Jvm.Cond.selects "WhoseGlassModel" ({ cls := "WhoseGlassModel", name := "cost", desc := "(I)I" } : Jvm.MethodName) ({ cls := "WhoseGlassModel", name := "cost", desc := "(I)I" } : Jvm.MethodName)) ∈ lw_all := lw_g (lw_at lw_m7 61 rfl) rfl
theorem q1555 : (Jvm.Cond.code ({ cls := "WhoseGlassModel", name := "cost", desc := "(I)I" } : Jvm.MethodName) prog_21_method_85_code (2 : Nat) (Option.some Jvm.ClassFile.FieldType.int)) ∈ lw_all := lw_g (lw_at lw_m7 62 rfl) rfl
theorem q1556 : (Jvm.Cond.methodLink "WhoseGlassModel" (327 : Nat) ({ cls := "WhoseGlassModel", name := "costOf", desc := "(II)I" } : Jvm.MethodName)) ∈ lw_all := lw_g (lw_at lw_m7 63 rfl) rfl
theorem q1557 : (Jvm.Cond.static ({ cls := "WhoseGlassModel", name := "costOf", desc := "(II)I" } : Jvm.MethodName)) ∈ lw_all := lw_g (lw_at lw_m7 64 rfl) rfl
theorem q1558 : (Jvm.Cond.code ({ cls := "WhoseGlassModel", name := "costOf", desc := "(II)I" } : Jvm.MethodName) prog_21_method_84_code (2 : Nat) (Option.some Jvm.ClassFile.FieldType.int)) ∈ lw_all := lw_g (lw_at lw_m7 65 rfl) rfl
theorem q1560 : (Jvm.Cond.instanceMethod ({ cls := "WhoseGlassModel", name := "toss", desc := "(I)I" } : Jvm.MethodName)) ∈ lw_all := lw_g (lw_at lw_m7 67 rfl) rfl
theorem q1561 : (Jvm.Cond.selects "WhoseGlassModel" ({ cls := "WhoseGlassModel", name := "toss", desc := "(I)I" } : Jvm.MethodName) ({ cls := "WhoseGlassModel", name := "toss", desc := "(I)I" } : Jvm.MethodName)) ∈ lw_all := lw_g (lw_at lw_m7 68 rfl) rfl
theorem q1562 : (Jvm.Cond.code ({ cls := "WhoseGlassModel", name := "toss", desc := "(I)I" } : Jvm.MethodName) prog_21_method_86_code (4 : Nat) (Option.some Jvm.ClassFile.FieldType.int)) ∈ lw_all := lw_g (lw_at lw_m7 69 rfl) rfl
theorem in_X4 : ∀ w ∈ wsX40, w ∈ lw_all := lw_in wsX40 [1118, 1120, 1122, 1124, 1126, 1128, 1130, 1132, 1134, 1136, 1138, 1140, 1142, 1144, 1146, 1148, 1150, 1152, 1154, 1156, 1158, 1160, 1162, 1164, 1166, 1168, 1170, 1172, 1174, 1176, 1178, 1180, 1182, 1184, 1186, 1188, 1190, 1192, 1194, 1196, 1198, 1200, 1202, 1204, 1206, 1208] (by decide +kernel) (by decide +kernel)

/-! WhoseGlass -/
set_option maxRecDepth 100000
def RX1 : String := "WhoseGlass"
def TX1 : u_T := fun k => match k with
  | 0 => ("WhoseGlass", "house", "LWhoseGlass$House;", true)
  | 1 => ("WhoseGlass", "tried", "LWhoseGlass$House;", true)
  | 2 => ("WhoseGlass", "kept", "LWhoseGlass$House;", true)
  | 3 => ("WhoseGlass", "mind", "LWhoseGlass$House;", true)
  | 4 => ("WhoseGlass", "hasImage", "Z", false)
  | 5 => ("WhoseGlass", "lots", "I", false)
  | _ => ("WhoseGlass", "shelves", "[LWhoseGlass$Shelf;", true)
def tyX1 : Nat → FieldType := fun k => match k with
  | 0 => .object "WhoseGlass$House"
  | 1 => .object "WhoseGlass$House"
  | 2 => .object "WhoseGlass$House"
  | 3 => .object "WhoseGlass$House"
  | 4 => .boolean
  | 5 => .int
  | _ => .array (.object "WhoseGlass$Shelf")
abbrev wsX10 : List Cond := u_ws RX1 TX1 7
theorem nmX1 : ∀ a, a < 7 → ∀ b, b < 7 → a ≠ b → (TX1 a).2.1 ≠ (TX1 b).2.1 := by decide +kernel
theorem tyX1_ok : ∀ k, k < 7 → parseFieldDescriptor (TX1 k).2.2.1 = some (tyX1 k) := by decide +kernel
abbrev cX1_house : ByteArray := prog_1_method_8_code
def yX1_house : MethodName := ⟨RX1, "house", "(I)I"⟩
def dkwX1_house_5 : List UInt8 := [180, 0, 48, 42, 180, 0, 108, 182, 0, 111, 17, 252, 24, 45, 180, 0, 136, 104, 45, 180, 0, 139, 100, 172]
abbrev dktX1_house_5 : List UInt8 := dkwX1_house_5 ++ []
def dkwX1_house_4 : List UInt8 := [180, 0, 131, 21, 4, 46, 183, 0, 134, 191, 132, 4, 1, 167, 255, 218, 45, 180, 0, 122, 172, 78, 42]
abbrev dktX1_house_4 : List UInt8 := dkwX1_house_4 ++ dktX1_house_5
def dkwX1_house_3 : List UInt8 := [180, 0, 122, 162, 0, 35, 42, 45, 21, 4, 182, 0, 125, 154, 0, 19, 187, 0, 129, 89, 5, 45]
abbrev dktX1_house_3 : List UInt8 := dkwX1_house_3 ++ dktX1_house_4
def dkwX1_house_2 : List UInt8 := [187, 0, 35, 89, 44, 192, 0, 106, 183, 0, 115, 78, 45, 182, 0, 118, 3, 54, 4, 21, 4, 45]
abbrev dktX1_house_2 : List UInt8 := dkwX1_house_2 ++ dktX1_house_3
def dkwX1_house_1 : List UInt8 := [16, 245, 172, 44, 193, 0, 106, 154, 0, 6, 16, 244, 172, 42, 180, 0, 108, 42, 180, 0, 48, 182, 0, 111]
abbrev dktX1_house_1 : List UInt8 := dkwX1_house_1 ++ dktX1_house_2
def dkwX1_house_0 : List UInt8 := [27, 184, 0, 93, 154, 0, 5, 2, 172, 42, 180, 0, 96, 27, 50, 180, 0, 100, 77, 44, 199, 0, 6]
abbrev dktX1_house_0 : List UInt8 := dkwX1_house_0 ++ dktX1_house_1
theorem dksX1_house_0 : cX1_house.data.toList.drop 0 = dktX1_house_0 := by decide +kernel
theorem dksX1_house_1 : cX1_house.data.toList.drop 23 = dktX1_house_1 := dk_seg dksX1_house_0 23 rfl rfl
theorem dksX1_house_2 : cX1_house.data.toList.drop 47 = dktX1_house_2 := dk_seg dksX1_house_1 24 rfl rfl
theorem dksX1_house_3 : cX1_house.data.toList.drop 69 = dktX1_house_3 := dk_seg dksX1_house_2 22 rfl rfl
theorem dksX1_house_4 : cX1_house.data.toList.drop 91 = dktX1_house_4 := dk_seg dksX1_house_3 22 rfl rfl
theorem dksX1_house_5 : cX1_house.data.toList.drop 114 = dktX1_house_5 := dk_seg dksX1_house_4 23 rfl rfl
theorem dX1_house_0 : decode cX1_house 0 = .ok (.iload_n 1, 1) := dk_27 (dk_at dksX1_house_0 0 rfl rfl)
theorem dX1_house_1 : decode cX1_house 1 = .ok (.invokestatic 93, 3) := dk_184 0 93 (dk_at dksX1_house_0 1 rfl rfl)
theorem dX1_house_4 : decode cX1_house 4 = .ok (.ifCond .ne 5, 3) := dk_154 0 5 (dk_at dksX1_house_0 4 rfl rfl)
theorem dX1_house_7 : decode cX1_house 7 = .ok (.iconst (-1), 1) := dk_2 (dk_at dksX1_house_0 7 rfl rfl)
theorem dX1_house_8 : decode cX1_house 8 = .ok (.ireturn, 1) := dk_172 (dk_at dksX1_house_0 8 rfl rfl)
theorem dX1_house_9 : decode cX1_house 9 = .ok (.aload_n 0, 1) := dk_42 (dk_at dksX1_house_0 9 rfl rfl)
theorem dX1_house_10 : decode cX1_house 10 = .ok (.getfield 96, 3) := dk_180 0 96 (dk_at dksX1_house_0 10 rfl rfl)
theorem dX1_house_13 : decode cX1_house 13 = .ok (.iload_n 1, 1) := dk_27 (dk_at dksX1_house_0 13 rfl rfl)
theorem dX1_house_14 : decode cX1_house 14 = .ok (.aaload, 1) := dk_50 (dk_at dksX1_house_0 14 rfl rfl)
theorem dX1_house_15 : decode cX1_house 15 = .ok (.getfield 100, 3) := dk_180 0 100 (dk_at dksX1_house_0 15 rfl rfl)
theorem dX1_house_18 : decode cX1_house 18 = .ok (.astore_n 2, 1) := dk_77 (dk_at dksX1_house_0 18 rfl rfl)
theorem dX1_house_19 : decode cX1_house 19 = .ok (.aload_n 2, 1) := dk_44 (dk_at dksX1_house_0 19 rfl rfl)
theorem dX1_house_20 : decode cX1_house 20 = .ok (.ifnonnull 6, 3) := dk_199 0 6 (dk_at dksX1_house_0 20 rfl rfl)
theorem dX1_house_23 : decode cX1_house 23 = .ok (.bipush (-11), 2) := dk_16 245 (dk_at dksX1_house_1 0 rfl rfl)
theorem dX1_house_25 : decode cX1_house 25 = .ok (.ireturn, 1) := dk_172 (dk_at dksX1_house_1 2 rfl rfl)
theorem dX1_house_26 : decode cX1_house 26 = .ok (.aload_n 2, 1) := dk_44 (dk_at dksX1_house_1 3 rfl rfl)
theorem dX1_house_27 : decode cX1_house 27 = .ok (.instanceof 106, 3) := dk_193 0 106 (dk_at dksX1_house_1 4 rfl rfl)
theorem dX1_house_30 : decode cX1_house 30 = .ok (.ifCond .ne 6, 3) := dk_154 0 6 (dk_at dksX1_house_1 7 rfl rfl)
theorem dX1_house_33 : decode cX1_house 33 = .ok (.bipush (-12), 2) := dk_16 244 (dk_at dksX1_house_1 10 rfl rfl)
theorem dX1_house_35 : decode cX1_house 35 = .ok (.ireturn, 1) := dk_172 (dk_at dksX1_house_1 12 rfl rfl)
theorem dX1_house_36 : decode cX1_house 36 = .ok (.aload_n 0, 1) := dk_42 (dk_at dksX1_house_1 13 rfl rfl)
theorem dX1_house_37 : decode cX1_house 37 = .ok (.getfield 108, 3) := dk_180 0 108 (dk_at dksX1_house_1 14 rfl rfl)
theorem dX1_house_40 : decode cX1_house 40 = .ok (.aload_n 0, 1) := dk_42 (dk_at dksX1_house_1 17 rfl rfl)
theorem dX1_house_41 : decode cX1_house 41 = .ok (.getfield 48, 3) := dk_180 0 48 (dk_at dksX1_house_1 18 rfl rfl)
theorem dX1_house_44 : decode cX1_house 44 = .ok (.invokevirtual 111, 3) := dk_182 0 111 (dk_at dksX1_house_1 21 rfl rfl)
theorem dX1_house_47 : decode cX1_house 47 = .ok (.new 35, 3) := dk_187 0 35 (dk_at dksX1_house_2 0 rfl rfl)
theorem dX1_house_50 : decode cX1_house 50 = .ok (.dup, 1) := dk_89 (dk_at dksX1_house_2 3 rfl rfl)
theorem dX1_house_51 : decode cX1_house 51 = .ok (.aload_n 2, 1) := dk_44 (dk_at dksX1_house_2 4 rfl rfl)
theorem dX1_house_52 : decode cX1_house 52 = .ok (.checkcast 106, 3) := dk_192 0 106 (dk_at dksX1_house_2 5 rfl rfl)
theorem dX1_house_55 : decode cX1_house 55 = .ok (.invokespecial 115, 3) := dk_183 0 115 (dk_at dksX1_house_2 8 rfl rfl)
theorem dX1_house_58 : decode cX1_house 58 = .ok (.astore_n 3, 1) := dk_78 (dk_at dksX1_house_2 11 rfl rfl)
theorem dX1_house_59 : decode cX1_house 59 = .ok (.aload_n 3, 1) := dk_45 (dk_at dksX1_house_2 12 rfl rfl)
theorem dX1_house_60 : decode cX1_house 60 = .ok (.invokevirtual 118, 3) := dk_182 0 118 (dk_at dksX1_house_2 13 rfl rfl)
theorem dX1_house_63 : decode cX1_house 63 = .ok (.iconst 0, 1) := dk_3 (dk_at dksX1_house_2 16 rfl rfl)
theorem dX1_house_64 : decode cX1_house 64 = .ok (.istore 4, 2) := dk_54 4 (dk_at dksX1_house_2 17 rfl rfl)
theorem dX1_house_66 : decode cX1_house 66 = .ok (.iload 4, 2) := dk_21 4 (dk_at dksX1_house_2 19 rfl rfl)
theorem dX1_house_68 : decode cX1_house 68 = .ok (.aload_n 3, 1) := dk_45 (dk_at dksX1_house_2 21 rfl rfl)
theorem dX1_house_69 : decode cX1_house 69 = .ok (.getfield 122, 3) := dk_180 0 122 (dk_at dksX1_house_3 0 rfl rfl)
theorem dX1_house_72 : decode cX1_house 72 = .ok (.if_icmp .ge 35, 3) := dk_162 0 35 (dk_at dksX1_house_3 3 rfl rfl)
theorem dX1_house_75 : decode cX1_house 75 = .ok (.aload_n 0, 1) := dk_42 (dk_at dksX1_house_3 6 rfl rfl)
theorem dX1_house_76 : decode cX1_house 76 = .ok (.aload_n 3, 1) := dk_45 (dk_at dksX1_house_3 7 rfl rfl)
theorem dX1_house_77 : decode cX1_house 77 = .ok (.iload 4, 2) := dk_21 4 (dk_at dksX1_house_3 8 rfl rfl)
theorem dX1_house_79 : decode cX1_house 79 = .ok (.invokevirtual 125, 3) := dk_182 0 125 (dk_at dksX1_house_3 10 rfl rfl)
theorem dX1_house_82 : decode cX1_house 82 = .ok (.ifCond .ne 19, 3) := dk_154 0 19 (dk_at dksX1_house_3 13 rfl rfl)
theorem dX1_house_85 : decode cX1_house 85 = .ok (.new 129, 3) := dk_187 0 129 (dk_at dksX1_house_3 16 rfl rfl)
theorem dX1_house_88 : decode cX1_house 88 = .ok (.dup, 1) := dk_89 (dk_at dksX1_house_3 19 rfl rfl)
theorem dX1_house_89 : decode cX1_house 89 = .ok (.iconst 2, 1) := dk_5 (dk_at dksX1_house_3 20 rfl rfl)
theorem dX1_house_90 : decode cX1_house 90 = .ok (.aload_n 3, 1) := dk_45 (dk_at dksX1_house_3 21 rfl rfl)
theorem dX1_house_91 : decode cX1_house 91 = .ok (.getfield 131, 3) := dk_180 0 131 (dk_at dksX1_house_4 0 rfl rfl)
theorem dX1_house_94 : decode cX1_house 94 = .ok (.iload 4, 2) := dk_21 4 (dk_at dksX1_house_4 3 rfl rfl)
theorem dX1_house_96 : decode cX1_house 96 = .ok (.iaload, 1) := dk_46 (dk_at dksX1_house_4 5 rfl rfl)
theorem dX1_house_97 : decode cX1_house 97 = .ok (.invokespecial 134, 3) := dk_183 0 134 (dk_at dksX1_house_4 6 rfl rfl)
theorem dX1_house_100 : decode cX1_house 100 = .ok (.athrow, 1) := dk_191 (dk_at dksX1_house_4 9 rfl rfl)
theorem dX1_house_101 : decode cX1_house 101 = .ok (.iinc 4 1, 3) := dk_132 4 1 (dk_at dksX1_house_4 10 rfl rfl)
theorem dX1_house_104 : decode cX1_house 104 = .ok (.goto (-38), 3) := dk_167 255 218 (dk_at dksX1_house_4 13 rfl rfl)
theorem dX1_house_107 : decode cX1_house 107 = .ok (.aload_n 3, 1) := dk_45 (dk_at dksX1_house_4 16 rfl rfl)
theorem dX1_house_108 : decode cX1_house 108 = .ok (.getfield 122, 3) := dk_180 0 122 (dk_at dksX1_house_4 17 rfl rfl)
theorem dX1_house_111 : decode cX1_house 111 = .ok (.ireturn, 1) := dk_172 (dk_at dksX1_house_4 20 rfl rfl)
theorem dX1_house_112 : decode cX1_house 112 = .ok (.astore_n 3, 1) := dk_78 (dk_at dksX1_house_4 21 rfl rfl)
theorem dX1_house_113 : decode cX1_house 113 = .ok (.aload_n 0, 1) := dk_42 (dk_at dksX1_house_4 22 rfl rfl)
theorem dX1_house_114 : decode cX1_house 114 = .ok (.getfield 48, 3) := dk_180 0 48 (dk_at dksX1_house_5 0 rfl rfl)
theorem dX1_house_117 : decode cX1_house 117 = .ok (.aload_n 0, 1) := dk_42 (dk_at dksX1_house_5 3 rfl rfl)
theorem dX1_house_118 : decode cX1_house 118 = .ok (.getfield 108, 3) := dk_180 0 108 (dk_at dksX1_house_5 4 rfl rfl)
theorem dX1_house_121 : decode cX1_house 121 = .ok (.invokevirtual 111, 3) := dk_182 0 111 (dk_at dksX1_house_5 7 rfl rfl)
theorem dX1_house_124 : decode cX1_house 124 = .ok (.sipush (-1000), 3) := dk_17 252 24 (dk_at dksX1_house_5 10 rfl rfl)
theorem dX1_house_127 : decode cX1_house 127 = .ok (.aload_n 3, 1) := dk_45 (dk_at dksX1_house_5 13 rfl rfl)
theorem dX1_house_128 : decode cX1_house 128 = .ok (.getfield 136, 3) := dk_180 0 136 (dk_at dksX1_house_5 14 rfl rfl)
theorem dX1_house_131 : decode cX1_house 131 = .ok (.imul, 1) := dk_104 (dk_at dksX1_house_5 17 rfl rfl)
theorem dX1_house_132 : decode cX1_house 132 = .ok (.aload_n 3, 1) := dk_45 (dk_at dksX1_house_5 18 rfl rfl)
theorem dX1_house_133 : decode cX1_house 133 = .ok (.getfield 139, 3) := dk_180 0 139 (dk_at dksX1_house_5 19 rfl rfl)
theorem dX1_house_136 : decode cX1_house 136 = .ok (.isub, 1) := dk_100 (dk_at dksX1_house_5 22 rfl rfl)
theorem dX1_house_137 : decode cX1_house 137 = .ok (.ireturn, 1) := dk_172 (dk_at dksX1_house_5 23 rfl rfl)
abbrev cX1_isShelf : ByteArray := prog_1_method_7_code
def yX1_isShelf : MethodName := ⟨RX1, "isShelf", "(I)Z"⟩
def dkwX1_isShelf_0 : List UInt8 := [26, 3, 16, 7, 184, 0, 3, 172]
abbrev dktX1_isShelf_0 : List UInt8 := dkwX1_isShelf_0 ++ []
theorem dksX1_isShelf_0 : cX1_isShelf.data.toList.drop 0 = dktX1_isShelf_0 := by decide +kernel
theorem dX1_isShelf_0 : decode cX1_isShelf 0 = .ok (.iload_n 0, 1) := dk_26 (dk_at dksX1_isShelf_0 0 rfl rfl)
theorem dX1_isShelf_1 : decode cX1_isShelf 1 = .ok (.iconst 0, 1) := dk_3 (dk_at dksX1_isShelf_0 1 rfl rfl)
theorem dX1_isShelf_2 : decode cX1_isShelf 2 = .ok (.bipush 7, 2) := dk_16 7 (dk_at dksX1_isShelf_0 2 rfl rfl)
theorem dX1_isShelf_4 : decode cX1_isShelf 4 = .ok (.invokestatic 3, 3) := dk_184 0 3 (dk_at dksX1_isShelf_0 4 rfl rfl)
theorem dX1_isShelf_7 : decode cX1_isShelf 7 = .ok (.ireturn, 1) := dk_172 (dk_at dksX1_isShelf_0 7 rfl rfl)
abbrev cX1_isIn : ByteArray := prog_1_method_1_code
def yX1_isIn : MethodName := ⟨RX1, "isIn", "(III)Z"⟩
def dkwX1_isIn_0 : List UInt8 := [26, 27, 161, 0, 12, 26, 28, 163, 0, 7, 4, 167, 0, 4, 3, 172]
abbrev dktX1_isIn_0 : List UInt8 := dkwX1_isIn_0 ++ []
theorem dksX1_isIn_0 : cX1_isIn.data.toList.drop 0 = dktX1_isIn_0 := by decide +kernel
theorem dX1_isIn_0 : decode cX1_isIn 0 = .ok (.iload_n 0, 1) := dk_26 (dk_at dksX1_isIn_0 0 rfl rfl)
theorem dX1_isIn_1 : decode cX1_isIn 1 = .ok (.iload_n 1, 1) := dk_27 (dk_at dksX1_isIn_0 1 rfl rfl)
theorem dX1_isIn_2 : decode cX1_isIn 2 = .ok (.if_icmp .lt 12, 3) := dk_161 0 12 (dk_at dksX1_isIn_0 2 rfl rfl)
theorem dX1_isIn_5 : decode cX1_isIn 5 = .ok (.iload_n 0, 1) := dk_26 (dk_at dksX1_isIn_0 5 rfl rfl)
theorem dX1_isIn_6 : decode cX1_isIn 6 = .ok (.iload_n 2, 1) := dk_28 (dk_at dksX1_isIn_0 6 rfl rfl)
theorem dX1_isIn_7 : decode cX1_isIn 7 = .ok (.if_icmp .gt 7, 3) := dk_163 0 7 (dk_at dksX1_isIn_0 7 rfl rfl)
theorem dX1_isIn_10 : decode cX1_isIn 10 = .ok (.iconst 1, 1) := dk_4 (dk_at dksX1_isIn_0 10 rfl rfl)
theorem dX1_isIn_11 : decode cX1_isIn 11 = .ok (.goto 4, 3) := dk_167 0 4 (dk_at dksX1_isIn_0 11 rfl rfl)
theorem dX1_isIn_14 : decode cX1_isIn 14 = .ok (.iconst 0, 1) := dk_3 (dk_at dksX1_isIn_0 14 rfl rfl)
theorem dX1_isIn_15 : decode cX1_isIn 15 = .ok (.ireturn, 1) := dk_172 (dk_at dksX1_isIn_0 15 rfl rfl)
abbrev cX1_comesAs : ByteArray := prog_1_method_6_code
def yX1_comesAs : MethodName := ⟨RX1, "comesAs", "(LWhoseGlass$Reader;I)Z"⟩
def dkwX1_comesAs_11 : List UInt8 := [182, 0, 89, 172]
abbrev dktX1_comesAs_11 : List UInt8 := dkwX1_comesAs_11 ++ []
def dkwX1_comesAs_10 : List UInt8 := [130, 181, 0, 82, 4, 172, 42, 180, 0, 48, 45, 3, 46, 181, 0, 86, 4, 172, 42, 180, 0, 48]
abbrev dktX1_comesAs_10 : List UInt8 := dkwX1_comesAs_10 ++ dktX1_comesAs_11
def dkwX1_comesAs_9 : List UInt8 := [45, 3, 46, 182, 0, 66, 154, 0, 5, 3, 172, 42, 180, 0, 48, 89, 180, 0, 82, 4, 45, 3, 46, 120]
abbrev dktX1_comesAs_9 : List UInt8 := dkwX1_comesAs_9 ++ dktX1_comesAs_10
def dkwX1_comesAs_8 : List UInt8 := [154, 0, 5, 3, 172, 42, 180, 0, 48, 45, 3, 46, 45, 4, 46, 182, 0, 78, 4, 172, 42, 180, 0, 48]
abbrev dktX1_comesAs_8 : List UInt8 := dkwX1_comesAs_8 ++ dktX1_comesAs_9
def dkwX1_comesAs_7 : List UInt8 := [180, 0, 72, 45, 3, 46, 46, 16, 252, 160, 0, 16, 42, 180, 0, 48, 45, 4, 46, 182, 0, 75]
abbrev dktX1_comesAs_7 : List UInt8 := dkwX1_comesAs_7 ++ dktX1_comesAs_8
def dkwX1_comesAs_6 : List UInt8 := [182, 0, 66, 153, 0, 45, 42, 180, 0, 48, 45, 4, 46, 182, 0, 69, 153, 0, 32, 42, 180, 0, 48]
abbrev dktX1_comesAs_6 : List UInt8 := dkwX1_comesAs_6 ++ dktX1_comesAs_7
def dkwX1_comesAs_5 : List UInt8 := [180, 0, 48, 45, 182, 0, 62, 153, 0, 7, 4, 167, 0, 4, 3, 172, 42, 180, 0, 48, 45, 3, 46]
abbrev dktX1_comesAs_5 : List UInt8 := dkwX1_comesAs_5 ++ dktX1_comesAs_6
def dkwX1_comesAs_4 : List UInt8 := [45, 3, 46, 158, 0, 33, 45, 4, 46, 158, 0, 27, 45, 7, 46, 184, 0, 44, 153, 0, 18, 42]
abbrev dktX1_comesAs_4 : List UInt8 := dkwX1_comesAs_4 ++ dktX1_comesAs_5
def dkwX1_comesAs_3 : List UInt8 := [45, 4, 46, 184, 0, 52, 45, 5, 46, 45, 6, 46, 182, 0, 56, 153, 0, 7, 4, 167, 0, 4, 3, 172]
abbrev dktX1_comesAs_3 : List UInt8 := dkwX1_comesAs_3 ++ dktX1_comesAs_4
def dkwX1_comesAs_2 : List UInt8 := [45, 3, 46, 16, 8, 162, 0, 41, 45, 6, 46, 184, 0, 44, 153, 0, 32, 42, 180, 0, 48, 45, 3, 46]
abbrev dktX1_comesAs_2 : List UInt8 := dkwX1_comesAs_2 ++ dktX1_comesAs_3
def dkwX1_comesAs_1 : List UInt8 := [171, 0, 0, 0, 0, 0, 255, 0, 0, 0, 5, 0, 0, 0, 99, 0, 0, 0, 209, 0, 0, 0, 103, 0, 0, 0, 51, 0, 0, 0, 104, 0, 0, 0, 137, 0, 0, 0, 112, 0, 0, 0, 99, 0, 0, 0, 116, 0, 0, 0, 243]
abbrev dktX1_comesAs_1 : List UInt8 := dkwX1_comesAs_1 ++ dktX1_comesAs_2
def dkwX1_comesAs_0 : List UInt8 := [43, 180, 0, 34, 28, 50, 78, 43, 180, 0, 40, 28, 46]
abbrev dktX1_comesAs_0 : List UInt8 := dkwX1_comesAs_0 ++ dktX1_comesAs_1
theorem dksX1_comesAs_0 : cX1_comesAs.data.toList.drop 0 = dktX1_comesAs_0 := by decide +kernel
theorem dksX1_comesAs_1 : cX1_comesAs.data.toList.drop 13 = dktX1_comesAs_1 := dk_seg dksX1_comesAs_0 13 rfl rfl
theorem dksX1_comesAs_2 : cX1_comesAs.data.toList.drop 64 = dktX1_comesAs_2 := dk_seg dksX1_comesAs_1 51 rfl rfl
theorem dksX1_comesAs_3 : cX1_comesAs.data.toList.drop 88 = dktX1_comesAs_3 := dk_seg dksX1_comesAs_2 24 rfl rfl
theorem dksX1_comesAs_4 : cX1_comesAs.data.toList.drop 112 = dktX1_comesAs_4 := dk_seg dksX1_comesAs_3 24 rfl rfl
theorem dksX1_comesAs_5 : cX1_comesAs.data.toList.drop 134 = dktX1_comesAs_5 := dk_seg dksX1_comesAs_4 22 rfl rfl
theorem dksX1_comesAs_6 : cX1_comesAs.data.toList.drop 157 = dktX1_comesAs_6 := dk_seg dksX1_comesAs_5 23 rfl rfl
theorem dksX1_comesAs_7 : cX1_comesAs.data.toList.drop 180 = dktX1_comesAs_7 := dk_seg dksX1_comesAs_6 23 rfl rfl
theorem dksX1_comesAs_8 : cX1_comesAs.data.toList.drop 202 = dktX1_comesAs_8 := dk_seg dksX1_comesAs_7 22 rfl rfl
theorem dksX1_comesAs_9 : cX1_comesAs.data.toList.drop 226 = dktX1_comesAs_9 := dk_seg dksX1_comesAs_8 24 rfl rfl
theorem dksX1_comesAs_10 : cX1_comesAs.data.toList.drop 250 = dktX1_comesAs_10 := dk_seg dksX1_comesAs_9 24 rfl rfl
theorem dksX1_comesAs_11 : cX1_comesAs.data.toList.drop 272 = dktX1_comesAs_11 := dk_seg dksX1_comesAs_10 22 rfl rfl
theorem dX1_comesAs_0 : decode cX1_comesAs 0 = .ok (.aload_n 1, 1) := dk_43 (dk_at dksX1_comesAs_0 0 rfl rfl)
theorem dX1_comesAs_1 : decode cX1_comesAs 1 = .ok (.getfield 34, 3) := dk_180 0 34 (dk_at dksX1_comesAs_0 1 rfl rfl)
theorem dX1_comesAs_4 : decode cX1_comesAs 4 = .ok (.iload_n 2, 1) := dk_28 (dk_at dksX1_comesAs_0 4 rfl rfl)
theorem dX1_comesAs_5 : decode cX1_comesAs 5 = .ok (.aaload, 1) := dk_50 (dk_at dksX1_comesAs_0 5 rfl rfl)
theorem dX1_comesAs_6 : decode cX1_comesAs 6 = .ok (.astore_n 3, 1) := dk_78 (dk_at dksX1_comesAs_0 6 rfl rfl)
theorem dX1_comesAs_7 : decode cX1_comesAs 7 = .ok (.aload_n 1, 1) := dk_43 (dk_at dksX1_comesAs_0 7 rfl rfl)
theorem dX1_comesAs_8 : decode cX1_comesAs 8 = .ok (.getfield 40, 3) := dk_180 0 40 (dk_at dksX1_comesAs_0 8 rfl rfl)
theorem dX1_comesAs_11 : decode cX1_comesAs 11 = .ok (.iload_n 2, 1) := dk_28 (dk_at dksX1_comesAs_0 11 rfl rfl)
theorem dX1_comesAs_12 : decode cX1_comesAs 12 = .ok (.iaload, 1) := dk_46 (dk_at dksX1_comesAs_0 12 rfl rfl)
theorem dX1_comesAs_13 : decode cX1_comesAs 13 = .ok (.lookupswitch 255 #[(99, 209), (103, 51), (104, 137), (112, 99), (116, 243)], 51) := by decide +kernel
theorem dX1_comesAs_64 : decode cX1_comesAs 64 = .ok (.aload_n 3, 1) := dk_45 (dk_at dksX1_comesAs_2 0 rfl rfl)
theorem dX1_comesAs_65 : decode cX1_comesAs 65 = .ok (.iconst 0, 1) := dk_3 (dk_at dksX1_comesAs_2 1 rfl rfl)
theorem dX1_comesAs_66 : decode cX1_comesAs 66 = .ok (.iaload, 1) := dk_46 (dk_at dksX1_comesAs_2 2 rfl rfl)
theorem dX1_comesAs_67 : decode cX1_comesAs 67 = .ok (.bipush 8, 2) := dk_16 8 (dk_at dksX1_comesAs_2 3 rfl rfl)
theorem dX1_comesAs_69 : decode cX1_comesAs 69 = .ok (.if_icmp .ge 41, 3) := dk_162 0 41 (dk_at dksX1_comesAs_2 5 rfl rfl)
theorem dX1_comesAs_72 : decode cX1_comesAs 72 = .ok (.aload_n 3, 1) := dk_45 (dk_at dksX1_comesAs_2 8 rfl rfl)
theorem dX1_comesAs_73 : decode cX1_comesAs 73 = .ok (.iconst 3, 1) := dk_6 (dk_at dksX1_comesAs_2 9 rfl rfl)
theorem dX1_comesAs_74 : decode cX1_comesAs 74 = .ok (.iaload, 1) := dk_46 (dk_at dksX1_comesAs_2 10 rfl rfl)
theorem dX1_comesAs_75 : decode cX1_comesAs 75 = .ok (.invokestatic 44, 3) := dk_184 0 44 (dk_at dksX1_comesAs_2 11 rfl rfl)
theorem dX1_comesAs_78 : decode cX1_comesAs 78 = .ok (.ifCond .eq 32, 3) := dk_153 0 32 (dk_at dksX1_comesAs_2 14 rfl rfl)
theorem dX1_comesAs_81 : decode cX1_comesAs 81 = .ok (.aload_n 0, 1) := dk_42 (dk_at dksX1_comesAs_2 17 rfl rfl)
theorem dX1_comesAs_82 : decode cX1_comesAs 82 = .ok (.getfield 48, 3) := dk_180 0 48 (dk_at dksX1_comesAs_2 18 rfl rfl)
theorem dX1_comesAs_85 : decode cX1_comesAs 85 = .ok (.aload_n 3, 1) := dk_45 (dk_at dksX1_comesAs_2 21 rfl rfl)
theorem dX1_comesAs_86 : decode cX1_comesAs 86 = .ok (.iconst 0, 1) := dk_3 (dk_at dksX1_comesAs_2 22 rfl rfl)
theorem dX1_comesAs_87 : decode cX1_comesAs 87 = .ok (.iaload, 1) := dk_46 (dk_at dksX1_comesAs_2 23 rfl rfl)
theorem dX1_comesAs_88 : decode cX1_comesAs 88 = .ok (.aload_n 3, 1) := dk_45 (dk_at dksX1_comesAs_3 0 rfl rfl)
theorem dX1_comesAs_89 : decode cX1_comesAs 89 = .ok (.iconst 1, 1) := dk_4 (dk_at dksX1_comesAs_3 1 rfl rfl)
theorem dX1_comesAs_90 : decode cX1_comesAs 90 = .ok (.iaload, 1) := dk_46 (dk_at dksX1_comesAs_3 2 rfl rfl)
theorem dX1_comesAs_91 : decode cX1_comesAs 91 = .ok (.invokestatic 52, 3) := dk_184 0 52 (dk_at dksX1_comesAs_3 3 rfl rfl)
theorem dX1_comesAs_94 : decode cX1_comesAs 94 = .ok (.aload_n 3, 1) := dk_45 (dk_at dksX1_comesAs_3 6 rfl rfl)
theorem dX1_comesAs_95 : decode cX1_comesAs 95 = .ok (.iconst 2, 1) := dk_5 (dk_at dksX1_comesAs_3 7 rfl rfl)
theorem dX1_comesAs_96 : decode cX1_comesAs 96 = .ok (.iaload, 1) := dk_46 (dk_at dksX1_comesAs_3 8 rfl rfl)
theorem dX1_comesAs_97 : decode cX1_comesAs 97 = .ok (.aload_n 3, 1) := dk_45 (dk_at dksX1_comesAs_3 9 rfl rfl)
theorem dX1_comesAs_98 : decode cX1_comesAs 98 = .ok (.iconst 3, 1) := dk_6 (dk_at dksX1_comesAs_3 10 rfl rfl)
theorem dX1_comesAs_99 : decode cX1_comesAs 99 = .ok (.iaload, 1) := dk_46 (dk_at dksX1_comesAs_3 11 rfl rfl)
theorem dX1_comesAs_100 : decode cX1_comesAs 100 = .ok (.invokevirtual 56, 3) := dk_182 0 56 (dk_at dksX1_comesAs_3 12 rfl rfl)
theorem dX1_comesAs_103 : decode cX1_comesAs 103 = .ok (.ifCond .eq 7, 3) := dk_153 0 7 (dk_at dksX1_comesAs_3 15 rfl rfl)
theorem dX1_comesAs_106 : decode cX1_comesAs 106 = .ok (.iconst 1, 1) := dk_4 (dk_at dksX1_comesAs_3 18 rfl rfl)
theorem dX1_comesAs_107 : decode cX1_comesAs 107 = .ok (.goto 4, 3) := dk_167 0 4 (dk_at dksX1_comesAs_3 19 rfl rfl)
theorem dX1_comesAs_110 : decode cX1_comesAs 110 = .ok (.iconst 0, 1) := dk_3 (dk_at dksX1_comesAs_3 22 rfl rfl)
theorem dX1_comesAs_111 : decode cX1_comesAs 111 = .ok (.ireturn, 1) := dk_172 (dk_at dksX1_comesAs_3 23 rfl rfl)
theorem dX1_comesAs_112 : decode cX1_comesAs 112 = .ok (.aload_n 3, 1) := dk_45 (dk_at dksX1_comesAs_4 0 rfl rfl)
theorem dX1_comesAs_113 : decode cX1_comesAs 113 = .ok (.iconst 0, 1) := dk_3 (dk_at dksX1_comesAs_4 1 rfl rfl)
theorem dX1_comesAs_114 : decode cX1_comesAs 114 = .ok (.iaload, 1) := dk_46 (dk_at dksX1_comesAs_4 2 rfl rfl)
theorem dX1_comesAs_115 : decode cX1_comesAs 115 = .ok (.ifCond .le 33, 3) := dk_158 0 33 (dk_at dksX1_comesAs_4 3 rfl rfl)
theorem dX1_comesAs_118 : decode cX1_comesAs 118 = .ok (.aload_n 3, 1) := dk_45 (dk_at dksX1_comesAs_4 6 rfl rfl)
theorem dX1_comesAs_119 : decode cX1_comesAs 119 = .ok (.iconst 1, 1) := dk_4 (dk_at dksX1_comesAs_4 7 rfl rfl)
theorem dX1_comesAs_120 : decode cX1_comesAs 120 = .ok (.iaload, 1) := dk_46 (dk_at dksX1_comesAs_4 8 rfl rfl)
theorem dX1_comesAs_121 : decode cX1_comesAs 121 = .ok (.ifCond .le 27, 3) := dk_158 0 27 (dk_at dksX1_comesAs_4 9 rfl rfl)
theorem dX1_comesAs_124 : decode cX1_comesAs 124 = .ok (.aload_n 3, 1) := dk_45 (dk_at dksX1_comesAs_4 12 rfl rfl)
theorem dX1_comesAs_125 : decode cX1_comesAs 125 = .ok (.iconst 4, 1) := dk_7 (dk_at dksX1_comesAs_4 13 rfl rfl)
theorem dX1_comesAs_126 : decode cX1_comesAs 126 = .ok (.iaload, 1) := dk_46 (dk_at dksX1_comesAs_4 14 rfl rfl)
theorem dX1_comesAs_127 : decode cX1_comesAs 127 = .ok (.invokestatic 44, 3) := dk_184 0 44 (dk_at dksX1_comesAs_4 15 rfl rfl)
theorem dX1_comesAs_130 : decode cX1_comesAs 130 = .ok (.ifCond .eq 18, 3) := dk_153 0 18 (dk_at dksX1_comesAs_4 18 rfl rfl)
theorem dX1_comesAs_133 : decode cX1_comesAs 133 = .ok (.aload_n 0, 1) := dk_42 (dk_at dksX1_comesAs_4 21 rfl rfl)
theorem dX1_comesAs_134 : decode cX1_comesAs 134 = .ok (.getfield 48, 3) := dk_180 0 48 (dk_at dksX1_comesAs_5 0 rfl rfl)
theorem dX1_comesAs_137 : decode cX1_comesAs 137 = .ok (.aload_n 3, 1) := dk_45 (dk_at dksX1_comesAs_5 3 rfl rfl)
theorem dX1_comesAs_138 : decode cX1_comesAs 138 = .ok (.invokevirtual 62, 3) := dk_182 0 62 (dk_at dksX1_comesAs_5 4 rfl rfl)
theorem dX1_comesAs_141 : decode cX1_comesAs 141 = .ok (.ifCond .eq 7, 3) := dk_153 0 7 (dk_at dksX1_comesAs_5 7 rfl rfl)
theorem dX1_comesAs_144 : decode cX1_comesAs 144 = .ok (.iconst 1, 1) := dk_4 (dk_at dksX1_comesAs_5 10 rfl rfl)
theorem dX1_comesAs_145 : decode cX1_comesAs 145 = .ok (.goto 4, 3) := dk_167 0 4 (dk_at dksX1_comesAs_5 11 rfl rfl)
theorem dX1_comesAs_148 : decode cX1_comesAs 148 = .ok (.iconst 0, 1) := dk_3 (dk_at dksX1_comesAs_5 14 rfl rfl)
theorem dX1_comesAs_149 : decode cX1_comesAs 149 = .ok (.ireturn, 1) := dk_172 (dk_at dksX1_comesAs_5 15 rfl rfl)
theorem dX1_comesAs_150 : decode cX1_comesAs 150 = .ok (.aload_n 0, 1) := dk_42 (dk_at dksX1_comesAs_5 16 rfl rfl)
theorem dX1_comesAs_151 : decode cX1_comesAs 151 = .ok (.getfield 48, 3) := dk_180 0 48 (dk_at dksX1_comesAs_5 17 rfl rfl)
theorem dX1_comesAs_154 : decode cX1_comesAs 154 = .ok (.aload_n 3, 1) := dk_45 (dk_at dksX1_comesAs_5 20 rfl rfl)
theorem dX1_comesAs_155 : decode cX1_comesAs 155 = .ok (.iconst 0, 1) := dk_3 (dk_at dksX1_comesAs_5 21 rfl rfl)
theorem dX1_comesAs_156 : decode cX1_comesAs 156 = .ok (.iaload, 1) := dk_46 (dk_at dksX1_comesAs_5 22 rfl rfl)
theorem dX1_comesAs_157 : decode cX1_comesAs 157 = .ok (.invokevirtual 66, 3) := dk_182 0 66 (dk_at dksX1_comesAs_6 0 rfl rfl)
theorem dX1_comesAs_160 : decode cX1_comesAs 160 = .ok (.ifCond .eq 45, 3) := dk_153 0 45 (dk_at dksX1_comesAs_6 3 rfl rfl)
theorem dX1_comesAs_163 : decode cX1_comesAs 163 = .ok (.aload_n 0, 1) := dk_42 (dk_at dksX1_comesAs_6 6 rfl rfl)
theorem dX1_comesAs_164 : decode cX1_comesAs 164 = .ok (.getfield 48, 3) := dk_180 0 48 (dk_at dksX1_comesAs_6 7 rfl rfl)
theorem dX1_comesAs_167 : decode cX1_comesAs 167 = .ok (.aload_n 3, 1) := dk_45 (dk_at dksX1_comesAs_6 10 rfl rfl)
theorem dX1_comesAs_168 : decode cX1_comesAs 168 = .ok (.iconst 1, 1) := dk_4 (dk_at dksX1_comesAs_6 11 rfl rfl)
theorem dX1_comesAs_169 : decode cX1_comesAs 169 = .ok (.iaload, 1) := dk_46 (dk_at dksX1_comesAs_6 12 rfl rfl)
theorem dX1_comesAs_170 : decode cX1_comesAs 170 = .ok (.invokevirtual 69, 3) := dk_182 0 69 (dk_at dksX1_comesAs_6 13 rfl rfl)
theorem dX1_comesAs_173 : decode cX1_comesAs 173 = .ok (.ifCond .eq 32, 3) := dk_153 0 32 (dk_at dksX1_comesAs_6 16 rfl rfl)
theorem dX1_comesAs_176 : decode cX1_comesAs 176 = .ok (.aload_n 0, 1) := dk_42 (dk_at dksX1_comesAs_6 19 rfl rfl)
theorem dX1_comesAs_177 : decode cX1_comesAs 177 = .ok (.getfield 48, 3) := dk_180 0 48 (dk_at dksX1_comesAs_6 20 rfl rfl)
theorem dX1_comesAs_180 : decode cX1_comesAs 180 = .ok (.getfield 72, 3) := dk_180 0 72 (dk_at dksX1_comesAs_7 0 rfl rfl)
theorem dX1_comesAs_183 : decode cX1_comesAs 183 = .ok (.aload_n 3, 1) := dk_45 (dk_at dksX1_comesAs_7 3 rfl rfl)
theorem dX1_comesAs_184 : decode cX1_comesAs 184 = .ok (.iconst 0, 1) := dk_3 (dk_at dksX1_comesAs_7 4 rfl rfl)
theorem dX1_comesAs_185 : decode cX1_comesAs 185 = .ok (.iaload, 1) := dk_46 (dk_at dksX1_comesAs_7 5 rfl rfl)
theorem dX1_comesAs_186 : decode cX1_comesAs 186 = .ok (.iaload, 1) := dk_46 (dk_at dksX1_comesAs_7 6 rfl rfl)
theorem dX1_comesAs_187 : decode cX1_comesAs 187 = .ok (.bipush (-4), 2) := dk_16 252 (dk_at dksX1_comesAs_7 7 rfl rfl)
theorem dX1_comesAs_189 : decode cX1_comesAs 189 = .ok (.if_icmp .ne 16, 3) := dk_160 0 16 (dk_at dksX1_comesAs_7 9 rfl rfl)
theorem dX1_comesAs_192 : decode cX1_comesAs 192 = .ok (.aload_n 0, 1) := dk_42 (dk_at dksX1_comesAs_7 12 rfl rfl)
theorem dX1_comesAs_193 : decode cX1_comesAs 193 = .ok (.getfield 48, 3) := dk_180 0 48 (dk_at dksX1_comesAs_7 13 rfl rfl)
theorem dX1_comesAs_196 : decode cX1_comesAs 196 = .ok (.aload_n 3, 1) := dk_45 (dk_at dksX1_comesAs_7 16 rfl rfl)
theorem dX1_comesAs_197 : decode cX1_comesAs 197 = .ok (.iconst 1, 1) := dk_4 (dk_at dksX1_comesAs_7 17 rfl rfl)
theorem dX1_comesAs_198 : decode cX1_comesAs 198 = .ok (.iaload, 1) := dk_46 (dk_at dksX1_comesAs_7 18 rfl rfl)
theorem dX1_comesAs_199 : decode cX1_comesAs 199 = .ok (.invokevirtual 75, 3) := dk_182 0 75 (dk_at dksX1_comesAs_7 19 rfl rfl)
theorem dX1_comesAs_202 : decode cX1_comesAs 202 = .ok (.ifCond .ne 5, 3) := dk_154 0 5 (dk_at dksX1_comesAs_8 0 rfl rfl)
theorem dX1_comesAs_205 : decode cX1_comesAs 205 = .ok (.iconst 0, 1) := dk_3 (dk_at dksX1_comesAs_8 3 rfl rfl)
theorem dX1_comesAs_206 : decode cX1_comesAs 206 = .ok (.ireturn, 1) := dk_172 (dk_at dksX1_comesAs_8 4 rfl rfl)
theorem dX1_comesAs_207 : decode cX1_comesAs 207 = .ok (.aload_n 0, 1) := dk_42 (dk_at dksX1_comesAs_8 5 rfl rfl)
theorem dX1_comesAs_208 : decode cX1_comesAs 208 = .ok (.getfield 48, 3) := dk_180 0 48 (dk_at dksX1_comesAs_8 6 rfl rfl)
theorem dX1_comesAs_211 : decode cX1_comesAs 211 = .ok (.aload_n 3, 1) := dk_45 (dk_at dksX1_comesAs_8 9 rfl rfl)
theorem dX1_comesAs_212 : decode cX1_comesAs 212 = .ok (.iconst 0, 1) := dk_3 (dk_at dksX1_comesAs_8 10 rfl rfl)
theorem dX1_comesAs_213 : decode cX1_comesAs 213 = .ok (.iaload, 1) := dk_46 (dk_at dksX1_comesAs_8 11 rfl rfl)
theorem dX1_comesAs_214 : decode cX1_comesAs 214 = .ok (.aload_n 3, 1) := dk_45 (dk_at dksX1_comesAs_8 12 rfl rfl)
theorem dX1_comesAs_215 : decode cX1_comesAs 215 = .ok (.iconst 1, 1) := dk_4 (dk_at dksX1_comesAs_8 13 rfl rfl)
theorem dX1_comesAs_216 : decode cX1_comesAs 216 = .ok (.iaload, 1) := dk_46 (dk_at dksX1_comesAs_8 14 rfl rfl)
theorem dX1_comesAs_217 : decode cX1_comesAs 217 = .ok (.invokevirtual 78, 3) := dk_182 0 78 (dk_at dksX1_comesAs_8 15 rfl rfl)
theorem dX1_comesAs_220 : decode cX1_comesAs 220 = .ok (.iconst 1, 1) := dk_4 (dk_at dksX1_comesAs_8 18 rfl rfl)
theorem dX1_comesAs_221 : decode cX1_comesAs 221 = .ok (.ireturn, 1) := dk_172 (dk_at dksX1_comesAs_8 19 rfl rfl)
theorem dX1_comesAs_222 : decode cX1_comesAs 222 = .ok (.aload_n 0, 1) := dk_42 (dk_at dksX1_comesAs_8 20 rfl rfl)
theorem dX1_comesAs_223 : decode cX1_comesAs 223 = .ok (.getfield 48, 3) := dk_180 0 48 (dk_at dksX1_comesAs_8 21 rfl rfl)
theorem dX1_comesAs_226 : decode cX1_comesAs 226 = .ok (.aload_n 3, 1) := dk_45 (dk_at dksX1_comesAs_9 0 rfl rfl)
theorem dX1_comesAs_227 : decode cX1_comesAs 227 = .ok (.iconst 0, 1) := dk_3 (dk_at dksX1_comesAs_9 1 rfl rfl)
theorem dX1_comesAs_228 : decode cX1_comesAs 228 = .ok (.iaload, 1) := dk_46 (dk_at dksX1_comesAs_9 2 rfl rfl)
theorem dX1_comesAs_229 : decode cX1_comesAs 229 = .ok (.invokevirtual 66, 3) := dk_182 0 66 (dk_at dksX1_comesAs_9 3 rfl rfl)
theorem dX1_comesAs_232 : decode cX1_comesAs 232 = .ok (.ifCond .ne 5, 3) := dk_154 0 5 (dk_at dksX1_comesAs_9 6 rfl rfl)
theorem dX1_comesAs_235 : decode cX1_comesAs 235 = .ok (.iconst 0, 1) := dk_3 (dk_at dksX1_comesAs_9 9 rfl rfl)
theorem dX1_comesAs_236 : decode cX1_comesAs 236 = .ok (.ireturn, 1) := dk_172 (dk_at dksX1_comesAs_9 10 rfl rfl)
theorem dX1_comesAs_237 : decode cX1_comesAs 237 = .ok (.aload_n 0, 1) := dk_42 (dk_at dksX1_comesAs_9 11 rfl rfl)
theorem dX1_comesAs_238 : decode cX1_comesAs 238 = .ok (.getfield 48, 3) := dk_180 0 48 (dk_at dksX1_comesAs_9 12 rfl rfl)
theorem dX1_comesAs_241 : decode cX1_comesAs 241 = .ok (.dup, 1) := dk_89 (dk_at dksX1_comesAs_9 15 rfl rfl)
theorem dX1_comesAs_242 : decode cX1_comesAs 242 = .ok (.getfield 82, 3) := dk_180 0 82 (dk_at dksX1_comesAs_9 16 rfl rfl)
theorem dX1_comesAs_245 : decode cX1_comesAs 245 = .ok (.iconst 1, 1) := dk_4 (dk_at dksX1_comesAs_9 19 rfl rfl)
theorem dX1_comesAs_246 : decode cX1_comesAs 246 = .ok (.aload_n 3, 1) := dk_45 (dk_at dksX1_comesAs_9 20 rfl rfl)
theorem dX1_comesAs_247 : decode cX1_comesAs 247 = .ok (.iconst 0, 1) := dk_3 (dk_at dksX1_comesAs_9 21 rfl rfl)
theorem dX1_comesAs_248 : decode cX1_comesAs 248 = .ok (.iaload, 1) := dk_46 (dk_at dksX1_comesAs_9 22 rfl rfl)
theorem dX1_comesAs_249 : decode cX1_comesAs 249 = .ok (.ishl, 1) := dk_120 (dk_at dksX1_comesAs_9 23 rfl rfl)
theorem dX1_comesAs_250 : decode cX1_comesAs 250 = .ok (.ixor, 1) := dk_130 (dk_at dksX1_comesAs_10 0 rfl rfl)
theorem dX1_comesAs_251 : decode cX1_comesAs 251 = .ok (.putfield 82, 3) := dk_181 0 82 (dk_at dksX1_comesAs_10 1 rfl rfl)
theorem dX1_comesAs_254 : decode cX1_comesAs 254 = .ok (.iconst 1, 1) := dk_4 (dk_at dksX1_comesAs_10 4 rfl rfl)
theorem dX1_comesAs_255 : decode cX1_comesAs 255 = .ok (.ireturn, 1) := dk_172 (dk_at dksX1_comesAs_10 5 rfl rfl)
theorem dX1_comesAs_256 : decode cX1_comesAs 256 = .ok (.aload_n 0, 1) := dk_42 (dk_at dksX1_comesAs_10 6 rfl rfl)
theorem dX1_comesAs_257 : decode cX1_comesAs 257 = .ok (.getfield 48, 3) := dk_180 0 48 (dk_at dksX1_comesAs_10 7 rfl rfl)
theorem dX1_comesAs_260 : decode cX1_comesAs 260 = .ok (.aload_n 3, 1) := dk_45 (dk_at dksX1_comesAs_10 10 rfl rfl)
theorem dX1_comesAs_261 : decode cX1_comesAs 261 = .ok (.iconst 0, 1) := dk_3 (dk_at dksX1_comesAs_10 11 rfl rfl)
theorem dX1_comesAs_262 : decode cX1_comesAs 262 = .ok (.iaload, 1) := dk_46 (dk_at dksX1_comesAs_10 12 rfl rfl)
theorem dX1_comesAs_263 : decode cX1_comesAs 263 = .ok (.putfield 86, 3) := dk_181 0 86 (dk_at dksX1_comesAs_10 13 rfl rfl)
theorem dX1_comesAs_266 : decode cX1_comesAs 266 = .ok (.iconst 1, 1) := dk_4 (dk_at dksX1_comesAs_10 16 rfl rfl)
theorem dX1_comesAs_267 : decode cX1_comesAs 267 = .ok (.ireturn, 1) := dk_172 (dk_at dksX1_comesAs_10 17 rfl rfl)
theorem dX1_comesAs_268 : decode cX1_comesAs 268 = .ok (.aload_n 0, 1) := dk_42 (dk_at dksX1_comesAs_10 18 rfl rfl)
theorem dX1_comesAs_269 : decode cX1_comesAs 269 = .ok (.getfield 48, 3) := dk_180 0 48 (dk_at dksX1_comesAs_10 19 rfl rfl)
theorem dX1_comesAs_272 : decode cX1_comesAs 272 = .ok (.invokevirtual 89, 3) := dk_182 0 89 (dk_at dksX1_comesAs_11 0 rfl rfl)
theorem dX1_comesAs_275 : decode cX1_comesAs 275 = .ok (.ireturn, 1) := dk_172 (dk_at dksX1_comesAs_11 3 rfl rfl)
abbrev cX1_isPlace : ByteArray := prog_1_method_4_code
def yX1_isPlace : MethodName := ⟨RX1, "isPlace", "(I)Z"⟩
def dkwX1_isPlace_0 : List UInt8 := [26, 3, 8, 184, 0, 3, 172]
abbrev dktX1_isPlace_0 : List UInt8 := dkwX1_isPlace_0 ++ []
theorem dksX1_isPlace_0 : cX1_isPlace.data.toList.drop 0 = dktX1_isPlace_0 := by decide +kernel
theorem dX1_isPlace_0 : decode cX1_isPlace 0 = .ok (.iload_n 0, 1) := dk_26 (dk_at dksX1_isPlace_0 0 rfl rfl)
theorem dX1_isPlace_1 : decode cX1_isPlace 1 = .ok (.iconst 0, 1) := dk_3 (dk_at dksX1_isPlace_0 1 rfl rfl)
theorem dX1_isPlace_2 : decode cX1_isPlace 2 = .ok (.iconst 5, 1) := dk_8 (dk_at dksX1_isPlace_0 2 rfl rfl)
theorem dX1_isPlace_3 : decode cX1_isPlace 3 = .ok (.invokestatic 3, 3) := dk_184 0 3 (dk_at dksX1_isPlace_0 3 rfl rfl)
theorem dX1_isPlace_6 : decode cX1_isPlace 6 = .ok (.ireturn, 1) := dk_172 (dk_at dksX1_isPlace_0 6 rfl rfl)
abbrev cX1_glassOf : ByteArray := prog_1_method_5_code
def yX1_glassOf : MethodName := ⟨RX1, "glassOf", "(II)LWhoseGlass$Glass;"⟩
def dkwX1_glassOf_5 : List UInt8 := [183, 0, 33, 176]
abbrev dktX1_glassOf_5 : List UInt8 := dkwX1_glassOf_5 ++ []
def dkwX1_glassOf_4 : List UInt8 := [187, 0, 25, 89, 27, 183, 0, 27, 176, 187, 0, 28, 89, 27, 183, 0, 30, 176, 187, 0, 31, 89, 27]
abbrev dktX1_glassOf_4 : List UInt8 := dkwX1_glassOf_4 ++ dktX1_glassOf_5
def dkwX1_glassOf_3 : List UInt8 := [183, 0, 18, 176, 187, 0, 19, 89, 27, 183, 0, 21, 176, 187, 0, 22, 89, 27, 183, 0, 24, 176]
abbrev dktX1_glassOf_3 : List UInt8 := dkwX1_glassOf_3 ++ dktX1_glassOf_4
def dkwX1_glassOf_2 : List UInt8 := [187, 0, 7, 89, 27, 183, 0, 9, 176, 187, 0, 13, 89, 27, 183, 0, 15, 176, 187, 0, 16, 89, 27]
abbrev dktX1_glassOf_2 : List UInt8 := dkwX1_glassOf_2 ++ dktX1_glassOf_3
def dkwX1_glassOf_1 : List UInt8 := [170, 0, 0, 0, 0, 0, 106, 0, 0, 0, 0, 0, 0, 0, 6, 0, 0, 0, 43, 0, 0, 0, 52, 0, 0, 0, 61, 0, 0, 0, 70, 0, 0, 0, 79, 0, 0, 0, 88, 0, 0, 0, 97]
abbrev dktX1_glassOf_1 : List UInt8 := dkwX1_glassOf_1 ++ dktX1_glassOf_2
def dkwX1_glassOf_0 : List UInt8 := [26]
abbrev dktX1_glassOf_0 : List UInt8 := dkwX1_glassOf_0 ++ dktX1_glassOf_1
theorem dksX1_glassOf_0 : cX1_glassOf.data.toList.drop 0 = dktX1_glassOf_0 := by decide +kernel
theorem dksX1_glassOf_1 : cX1_glassOf.data.toList.drop 1 = dktX1_glassOf_1 := dk_seg dksX1_glassOf_0 1 rfl rfl
theorem dksX1_glassOf_2 : cX1_glassOf.data.toList.drop 44 = dktX1_glassOf_2 := dk_seg dksX1_glassOf_1 43 rfl rfl
theorem dksX1_glassOf_3 : cX1_glassOf.data.toList.drop 67 = dktX1_glassOf_3 := dk_seg dksX1_glassOf_2 23 rfl rfl
theorem dksX1_glassOf_4 : cX1_glassOf.data.toList.drop 89 = dktX1_glassOf_4 := dk_seg dksX1_glassOf_3 22 rfl rfl
theorem dksX1_glassOf_5 : cX1_glassOf.data.toList.drop 112 = dktX1_glassOf_5 := dk_seg dksX1_glassOf_4 23 rfl rfl
theorem dX1_glassOf_0 : decode cX1_glassOf 0 = .ok (.iload_n 0, 1) := dk_26 (dk_at dksX1_glassOf_0 0 rfl rfl)
theorem dX1_glassOf_1 : decode cX1_glassOf 1 = .ok (.tableswitch 106 0 6 #[43, 52, 61, 70, 79, 88, 97], 43) := by decide +kernel
theorem dX1_glassOf_44 : decode cX1_glassOf 44 = .ok (.new 7, 3) := dk_187 0 7 (dk_at dksX1_glassOf_2 0 rfl rfl)
theorem dX1_glassOf_47 : decode cX1_glassOf 47 = .ok (.dup, 1) := dk_89 (dk_at dksX1_glassOf_2 3 rfl rfl)
theorem dX1_glassOf_48 : decode cX1_glassOf 48 = .ok (.iload_n 1, 1) := dk_27 (dk_at dksX1_glassOf_2 4 rfl rfl)
theorem dX1_glassOf_49 : decode cX1_glassOf 49 = .ok (.invokespecial 9, 3) := dk_183 0 9 (dk_at dksX1_glassOf_2 5 rfl rfl)
theorem dX1_glassOf_52 : decode cX1_glassOf 52 = .ok (.areturn, 1) := dk_176 (dk_at dksX1_glassOf_2 8 rfl rfl)
theorem dX1_glassOf_53 : decode cX1_glassOf 53 = .ok (.new 13, 3) := dk_187 0 13 (dk_at dksX1_glassOf_2 9 rfl rfl)
theorem dX1_glassOf_56 : decode cX1_glassOf 56 = .ok (.dup, 1) := dk_89 (dk_at dksX1_glassOf_2 12 rfl rfl)
theorem dX1_glassOf_57 : decode cX1_glassOf 57 = .ok (.iload_n 1, 1) := dk_27 (dk_at dksX1_glassOf_2 13 rfl rfl)
theorem dX1_glassOf_58 : decode cX1_glassOf 58 = .ok (.invokespecial 15, 3) := dk_183 0 15 (dk_at dksX1_glassOf_2 14 rfl rfl)
theorem dX1_glassOf_61 : decode cX1_glassOf 61 = .ok (.areturn, 1) := dk_176 (dk_at dksX1_glassOf_2 17 rfl rfl)
theorem dX1_glassOf_62 : decode cX1_glassOf 62 = .ok (.new 16, 3) := dk_187 0 16 (dk_at dksX1_glassOf_2 18 rfl rfl)
theorem dX1_glassOf_65 : decode cX1_glassOf 65 = .ok (.dup, 1) := dk_89 (dk_at dksX1_glassOf_2 21 rfl rfl)
theorem dX1_glassOf_66 : decode cX1_glassOf 66 = .ok (.iload_n 1, 1) := dk_27 (dk_at dksX1_glassOf_2 22 rfl rfl)
theorem dX1_glassOf_67 : decode cX1_glassOf 67 = .ok (.invokespecial 18, 3) := dk_183 0 18 (dk_at dksX1_glassOf_3 0 rfl rfl)
theorem dX1_glassOf_70 : decode cX1_glassOf 70 = .ok (.areturn, 1) := dk_176 (dk_at dksX1_glassOf_3 3 rfl rfl)
theorem dX1_glassOf_71 : decode cX1_glassOf 71 = .ok (.new 19, 3) := dk_187 0 19 (dk_at dksX1_glassOf_3 4 rfl rfl)
theorem dX1_glassOf_74 : decode cX1_glassOf 74 = .ok (.dup, 1) := dk_89 (dk_at dksX1_glassOf_3 7 rfl rfl)
theorem dX1_glassOf_75 : decode cX1_glassOf 75 = .ok (.iload_n 1, 1) := dk_27 (dk_at dksX1_glassOf_3 8 rfl rfl)
theorem dX1_glassOf_76 : decode cX1_glassOf 76 = .ok (.invokespecial 21, 3) := dk_183 0 21 (dk_at dksX1_glassOf_3 9 rfl rfl)
theorem dX1_glassOf_79 : decode cX1_glassOf 79 = .ok (.areturn, 1) := dk_176 (dk_at dksX1_glassOf_3 12 rfl rfl)
theorem dX1_glassOf_80 : decode cX1_glassOf 80 = .ok (.new 22, 3) := dk_187 0 22 (dk_at dksX1_glassOf_3 13 rfl rfl)
theorem dX1_glassOf_83 : decode cX1_glassOf 83 = .ok (.dup, 1) := dk_89 (dk_at dksX1_glassOf_3 16 rfl rfl)
theorem dX1_glassOf_84 : decode cX1_glassOf 84 = .ok (.iload_n 1, 1) := dk_27 (dk_at dksX1_glassOf_3 17 rfl rfl)
theorem dX1_glassOf_85 : decode cX1_glassOf 85 = .ok (.invokespecial 24, 3) := dk_183 0 24 (dk_at dksX1_glassOf_3 18 rfl rfl)
theorem dX1_glassOf_88 : decode cX1_glassOf 88 = .ok (.areturn, 1) := dk_176 (dk_at dksX1_glassOf_3 21 rfl rfl)
theorem dX1_glassOf_89 : decode cX1_glassOf 89 = .ok (.new 25, 3) := dk_187 0 25 (dk_at dksX1_glassOf_4 0 rfl rfl)
theorem dX1_glassOf_92 : decode cX1_glassOf 92 = .ok (.dup, 1) := dk_89 (dk_at dksX1_glassOf_4 3 rfl rfl)
theorem dX1_glassOf_93 : decode cX1_glassOf 93 = .ok (.iload_n 1, 1) := dk_27 (dk_at dksX1_glassOf_4 4 rfl rfl)
theorem dX1_glassOf_94 : decode cX1_glassOf 94 = .ok (.invokespecial 27, 3) := dk_183 0 27 (dk_at dksX1_glassOf_4 5 rfl rfl)
theorem dX1_glassOf_97 : decode cX1_glassOf 97 = .ok (.areturn, 1) := dk_176 (dk_at dksX1_glassOf_4 8 rfl rfl)
theorem dX1_glassOf_98 : decode cX1_glassOf 98 = .ok (.new 28, 3) := dk_187 0 28 (dk_at dksX1_glassOf_4 9 rfl rfl)
theorem dX1_glassOf_101 : decode cX1_glassOf 101 = .ok (.dup, 1) := dk_89 (dk_at dksX1_glassOf_4 12 rfl rfl)
theorem dX1_glassOf_102 : decode cX1_glassOf 102 = .ok (.iload_n 1, 1) := dk_27 (dk_at dksX1_glassOf_4 13 rfl rfl)
theorem dX1_glassOf_103 : decode cX1_glassOf 103 = .ok (.invokespecial 30, 3) := dk_183 0 30 (dk_at dksX1_glassOf_4 14 rfl rfl)
theorem dX1_glassOf_106 : decode cX1_glassOf 106 = .ok (.areturn, 1) := dk_176 (dk_at dksX1_glassOf_4 17 rfl rfl)
theorem dX1_glassOf_107 : decode cX1_glassOf 107 = .ok (.new 31, 3) := dk_187 0 31 (dk_at dksX1_glassOf_4 18 rfl rfl)
theorem dX1_glassOf_110 : decode cX1_glassOf 110 = .ok (.dup, 1) := dk_89 (dk_at dksX1_glassOf_4 21 rfl rfl)
theorem dX1_glassOf_111 : decode cX1_glassOf 111 = .ok (.iload_n 1, 1) := dk_27 (dk_at dksX1_glassOf_4 22 rfl rfl)
theorem dX1_glassOf_112 : decode cX1_glassOf 112 = .ok (.invokespecial 33, 3) := dk_183 0 33 (dk_at dksX1_glassOf_5 0 rfl rfl)
theorem dX1_glassOf_115 : decode cX1_glassOf 115 = .ok (.areturn, 1) := dk_176 (dk_at dksX1_glassOf_5 3 rfl rfl)
abbrev cX1_has : ByteArray := prog_1_method_2_code
def yX1_has : MethodName := ⟨RX1, "has", "(II)Z"⟩
def dkwX1_has_0 : List UInt8 := [26, 27, 122, 4, 126, 4, 160, 0, 7, 4, 167, 0, 4, 3, 172]
abbrev dktX1_has_0 : List UInt8 := dkwX1_has_0 ++ []
theorem dksX1_has_0 : cX1_has.data.toList.drop 0 = dktX1_has_0 := by decide +kernel
theorem dX1_has_0 : decode cX1_has 0 = .ok (.iload_n 0, 1) := dk_26 (dk_at dksX1_has_0 0 rfl rfl)
theorem dX1_has_1 : decode cX1_has 1 = .ok (.iload_n 1, 1) := dk_27 (dk_at dksX1_has_0 1 rfl rfl)
theorem dX1_has_2 : decode cX1_has 2 = .ok (.ishr, 1) := dk_122 (dk_at dksX1_has_0 2 rfl rfl)
theorem dX1_has_3 : decode cX1_has 3 = .ok (.iconst 1, 1) := dk_4 (dk_at dksX1_has_0 3 rfl rfl)
theorem dX1_has_4 : decode cX1_has 4 = .ok (.iand, 1) := dk_126 (dk_at dksX1_has_0 4 rfl rfl)
theorem dX1_has_5 : decode cX1_has 5 = .ok (.iconst 1, 1) := dk_4 (dk_at dksX1_has_0 5 rfl rfl)
theorem dX1_has_6 : decode cX1_has 6 = .ok (.if_icmp .ne 7, 3) := dk_160 0 7 (dk_at dksX1_has_0 6 rfl rfl)
theorem dX1_has_9 : decode cX1_has 9 = .ok (.iconst 1, 1) := dk_4 (dk_at dksX1_has_0 9 rfl rfl)
theorem dX1_has_10 : decode cX1_has 10 = .ok (.goto 4, 3) := dk_167 0 4 (dk_at dksX1_has_0 10 rfl rfl)
theorem dX1_has_13 : decode cX1_has 13 = .ok (.iconst 0, 1) := dk_3 (dk_at dksX1_has_0 13 rfl rfl)
theorem dX1_has_14 : decode cX1_has 14 = .ok (.ireturn, 1) := dk_172 (dk_at dksX1_has_0 14 rfl rfl)
abbrev cX1_glass : ByteArray := prog_1_method_9_code
def yX1_glass : MethodName := ⟨RX1, "glass", "(II)I"⟩
def dkwX1_glass_5 : List UInt8 := [167, 0, 4, 3, 172, 42, 180, 0, 48, 180, 0, 164, 27, 46, 172, 2, 172]
abbrev dktX1_glass_5 : List UInt8 := dkwX1_glass_5 ++ []
def dkwX1_glass_4 : List UInt8 := [42, 180, 0, 48, 180, 0, 157, 27, 46, 172, 42, 180, 0, 48, 180, 0, 160, 27, 51, 153, 0, 7, 4]
abbrev dktX1_glass_4 : List UInt8 := dkwX1_glass_4 ++ dktX1_glass_5
def dkwX1_glass_3 : List UInt8 := [180, 0, 148, 172, 42, 180, 0, 48, 180, 0, 151, 27, 46, 172, 42, 180, 0, 48, 180, 0, 154, 27, 46, 172]
abbrev dktX1_glass_3 : List UInt8 := dkwX1_glass_3 ++ dktX1_glass_4
def dkwX1_glass_2 : List UInt8 := [42, 180, 0, 48, 180, 0, 141, 27, 50, 182, 0, 145, 172, 42, 180, 0, 48, 180, 0, 141, 27, 50]
abbrev dktX1_glass_2 : List UInt8 := dkwX1_glass_2 ++ dktX1_glass_3
def dkwX1_glass_1 : List UInt8 := [170, 0, 0, 0, 0, 126, 0, 0, 0, 0, 0, 0, 0, 6, 0, 0, 0, 42, 0, 0, 0, 55, 0, 0, 0, 68, 0, 0, 0, 78, 0, 0, 0, 88, 0, 0, 0, 98, 0, 0, 0, 116]
abbrev dktX1_glass_1 : List UInt8 := dkwX1_glass_1 ++ dktX1_glass_2
def dkwX1_glass_0 : List UInt8 := [42, 180, 0, 48, 27, 182, 0, 69, 154, 0, 5, 2, 172, 28]
abbrev dktX1_glass_0 : List UInt8 := dkwX1_glass_0 ++ dktX1_glass_1
theorem dksX1_glass_0 : cX1_glass.data.toList.drop 0 = dktX1_glass_0 := by decide +kernel
theorem dksX1_glass_1 : cX1_glass.data.toList.drop 14 = dktX1_glass_1 := dk_seg dksX1_glass_0 14 rfl rfl
theorem dksX1_glass_2 : cX1_glass.data.toList.drop 56 = dktX1_glass_2 := dk_seg dksX1_glass_1 42 rfl rfl
theorem dksX1_glass_3 : cX1_glass.data.toList.drop 78 = dktX1_glass_3 := dk_seg dksX1_glass_2 22 rfl rfl
theorem dksX1_glass_4 : cX1_glass.data.toList.drop 102 = dktX1_glass_4 := dk_seg dksX1_glass_3 24 rfl rfl
theorem dksX1_glass_5 : cX1_glass.data.toList.drop 125 = dktX1_glass_5 := dk_seg dksX1_glass_4 23 rfl rfl
theorem dX1_glass_0 : decode cX1_glass 0 = .ok (.aload_n 0, 1) := dk_42 (dk_at dksX1_glass_0 0 rfl rfl)
theorem dX1_glass_1 : decode cX1_glass 1 = .ok (.getfield 48, 3) := dk_180 0 48 (dk_at dksX1_glass_0 1 rfl rfl)
theorem dX1_glass_4 : decode cX1_glass 4 = .ok (.iload_n 1, 1) := dk_27 (dk_at dksX1_glass_0 4 rfl rfl)
theorem dX1_glass_5 : decode cX1_glass 5 = .ok (.invokevirtual 69, 3) := dk_182 0 69 (dk_at dksX1_glass_0 5 rfl rfl)
theorem dX1_glass_8 : decode cX1_glass 8 = .ok (.ifCond .ne 5, 3) := dk_154 0 5 (dk_at dksX1_glass_0 8 rfl rfl)
theorem dX1_glass_11 : decode cX1_glass 11 = .ok (.iconst (-1), 1) := dk_2 (dk_at dksX1_glass_0 11 rfl rfl)
theorem dX1_glass_12 : decode cX1_glass 12 = .ok (.ireturn, 1) := dk_172 (dk_at dksX1_glass_0 12 rfl rfl)
theorem dX1_glass_13 : decode cX1_glass 13 = .ok (.iload_n 2, 1) := dk_28 (dk_at dksX1_glass_0 13 rfl rfl)
theorem dX1_glass_14 : decode cX1_glass 14 = .ok (.tableswitch 126 0 6 #[42, 55, 68, 78, 88, 98, 116], 42) := by decide +kernel
theorem dX1_glass_56 : decode cX1_glass 56 = .ok (.aload_n 0, 1) := dk_42 (dk_at dksX1_glass_2 0 rfl rfl)
theorem dX1_glass_57 : decode cX1_glass 57 = .ok (.getfield 48, 3) := dk_180 0 48 (dk_at dksX1_glass_2 1 rfl rfl)
theorem dX1_glass_60 : decode cX1_glass 60 = .ok (.getfield 141, 3) := dk_180 0 141 (dk_at dksX1_glass_2 4 rfl rfl)
theorem dX1_glass_63 : decode cX1_glass 63 = .ok (.iload_n 1, 1) := dk_27 (dk_at dksX1_glass_2 7 rfl rfl)
theorem dX1_glass_64 : decode cX1_glass 64 = .ok (.aaload, 1) := dk_50 (dk_at dksX1_glass_2 8 rfl rfl)
theorem dX1_glass_65 : decode cX1_glass 65 = .ok (.invokevirtual 145, 3) := dk_182 0 145 (dk_at dksX1_glass_2 9 rfl rfl)
theorem dX1_glass_68 : decode cX1_glass 68 = .ok (.ireturn, 1) := dk_172 (dk_at dksX1_glass_2 12 rfl rfl)
theorem dX1_glass_69 : decode cX1_glass 69 = .ok (.aload_n 0, 1) := dk_42 (dk_at dksX1_glass_2 13 rfl rfl)
theorem dX1_glass_70 : decode cX1_glass 70 = .ok (.getfield 48, 3) := dk_180 0 48 (dk_at dksX1_glass_2 14 rfl rfl)
theorem dX1_glass_73 : decode cX1_glass 73 = .ok (.getfield 141, 3) := dk_180 0 141 (dk_at dksX1_glass_2 17 rfl rfl)
theorem dX1_glass_76 : decode cX1_glass 76 = .ok (.iload_n 1, 1) := dk_27 (dk_at dksX1_glass_2 20 rfl rfl)
theorem dX1_glass_77 : decode cX1_glass 77 = .ok (.aaload, 1) := dk_50 (dk_at dksX1_glass_2 21 rfl rfl)
theorem dX1_glass_78 : decode cX1_glass 78 = .ok (.getfield 148, 3) := dk_180 0 148 (dk_at dksX1_glass_3 0 rfl rfl)
theorem dX1_glass_81 : decode cX1_glass 81 = .ok (.ireturn, 1) := dk_172 (dk_at dksX1_glass_3 3 rfl rfl)
theorem dX1_glass_82 : decode cX1_glass 82 = .ok (.aload_n 0, 1) := dk_42 (dk_at dksX1_glass_3 4 rfl rfl)
theorem dX1_glass_83 : decode cX1_glass 83 = .ok (.getfield 48, 3) := dk_180 0 48 (dk_at dksX1_glass_3 5 rfl rfl)
theorem dX1_glass_86 : decode cX1_glass 86 = .ok (.getfield 151, 3) := dk_180 0 151 (dk_at dksX1_glass_3 8 rfl rfl)
theorem dX1_glass_89 : decode cX1_glass 89 = .ok (.iload_n 1, 1) := dk_27 (dk_at dksX1_glass_3 11 rfl rfl)
theorem dX1_glass_90 : decode cX1_glass 90 = .ok (.iaload, 1) := dk_46 (dk_at dksX1_glass_3 12 rfl rfl)
theorem dX1_glass_91 : decode cX1_glass 91 = .ok (.ireturn, 1) := dk_172 (dk_at dksX1_glass_3 13 rfl rfl)
theorem dX1_glass_92 : decode cX1_glass 92 = .ok (.aload_n 0, 1) := dk_42 (dk_at dksX1_glass_3 14 rfl rfl)
theorem dX1_glass_93 : decode cX1_glass 93 = .ok (.getfield 48, 3) := dk_180 0 48 (dk_at dksX1_glass_3 15 rfl rfl)
theorem dX1_glass_96 : decode cX1_glass 96 = .ok (.getfield 154, 3) := dk_180 0 154 (dk_at dksX1_glass_3 18 rfl rfl)
theorem dX1_glass_99 : decode cX1_glass 99 = .ok (.iload_n 1, 1) := dk_27 (dk_at dksX1_glass_3 21 rfl rfl)
theorem dX1_glass_100 : decode cX1_glass 100 = .ok (.iaload, 1) := dk_46 (dk_at dksX1_glass_3 22 rfl rfl)
theorem dX1_glass_101 : decode cX1_glass 101 = .ok (.ireturn, 1) := dk_172 (dk_at dksX1_glass_3 23 rfl rfl)
theorem dX1_glass_102 : decode cX1_glass 102 = .ok (.aload_n 0, 1) := dk_42 (dk_at dksX1_glass_4 0 rfl rfl)
theorem dX1_glass_103 : decode cX1_glass 103 = .ok (.getfield 48, 3) := dk_180 0 48 (dk_at dksX1_glass_4 1 rfl rfl)
theorem dX1_glass_106 : decode cX1_glass 106 = .ok (.getfield 157, 3) := dk_180 0 157 (dk_at dksX1_glass_4 4 rfl rfl)
theorem dX1_glass_109 : decode cX1_glass 109 = .ok (.iload_n 1, 1) := dk_27 (dk_at dksX1_glass_4 7 rfl rfl)
theorem dX1_glass_110 : decode cX1_glass 110 = .ok (.iaload, 1) := dk_46 (dk_at dksX1_glass_4 8 rfl rfl)
theorem dX1_glass_111 : decode cX1_glass 111 = .ok (.ireturn, 1) := dk_172 (dk_at dksX1_glass_4 9 rfl rfl)
theorem dX1_glass_112 : decode cX1_glass 112 = .ok (.aload_n 0, 1) := dk_42 (dk_at dksX1_glass_4 10 rfl rfl)
theorem dX1_glass_113 : decode cX1_glass 113 = .ok (.getfield 48, 3) := dk_180 0 48 (dk_at dksX1_glass_4 11 rfl rfl)
theorem dX1_glass_116 : decode cX1_glass 116 = .ok (.getfield 160, 3) := dk_180 0 160 (dk_at dksX1_glass_4 14 rfl rfl)
theorem dX1_glass_119 : decode cX1_glass 119 = .ok (.iload_n 1, 1) := dk_27 (dk_at dksX1_glass_4 17 rfl rfl)
theorem dX1_glass_120 : decode cX1_glass 120 = .ok (.baload, 1) := dk_51 (dk_at dksX1_glass_4 18 rfl rfl)
theorem dX1_glass_121 : decode cX1_glass 121 = .ok (.ifCond .eq 7, 3) := dk_153 0 7 (dk_at dksX1_glass_4 19 rfl rfl)
theorem dX1_glass_124 : decode cX1_glass 124 = .ok (.iconst 1, 1) := dk_4 (dk_at dksX1_glass_4 22 rfl rfl)
theorem dX1_glass_125 : decode cX1_glass 125 = .ok (.goto 4, 3) := dk_167 0 4 (dk_at dksX1_glass_5 0 rfl rfl)
theorem dX1_glass_128 : decode cX1_glass 128 = .ok (.iconst 0, 1) := dk_3 (dk_at dksX1_glass_5 3 rfl rfl)
theorem dX1_glass_129 : decode cX1_glass 129 = .ok (.ireturn, 1) := dk_172 (dk_at dksX1_glass_5 4 rfl rfl)
theorem dX1_glass_130 : decode cX1_glass 130 = .ok (.aload_n 0, 1) := dk_42 (dk_at dksX1_glass_5 5 rfl rfl)
theorem dX1_glass_131 : decode cX1_glass 131 = .ok (.getfield 48, 3) := dk_180 0 48 (dk_at dksX1_glass_5 6 rfl rfl)
theorem dX1_glass_134 : decode cX1_glass 134 = .ok (.getfield 164, 3) := dk_180 0 164 (dk_at dksX1_glass_5 9 rfl rfl)
theorem dX1_glass_137 : decode cX1_glass 137 = .ok (.iload_n 1, 1) := dk_27 (dk_at dksX1_glass_5 12 rfl rfl)
theorem dX1_glass_138 : decode cX1_glass 138 = .ok (.iaload, 1) := dk_46 (dk_at dksX1_glass_5 13 rfl rfl)
theorem dX1_glass_139 : decode cX1_glass 139 = .ok (.ireturn, 1) := dk_172 (dk_at dksX1_glass_5 14 rfl rfl)
theorem dX1_glass_140 : decode cX1_glass 140 = .ok (.iconst (-1), 1) := dk_2 (dk_at dksX1_glass_5 15 rfl rfl)
theorem dX1_glass_141 : decode cX1_glass 141 = .ok (.ireturn, 1) := dk_172 (dk_at dksX1_glass_5 16 rfl rfl)
abbrev cX1_guest : ByteArray := prog_1_method_10_code
def yX1_guest : MethodName := ⟨RX1, "guest", "(II)I"⟩
def dkwX1_guest_5 : List UInt8 := [180, 0, 48, 180, 0, 183, 27, 46, 172, 42, 180, 0, 48, 180, 0, 82, 27, 122, 4, 126, 172, 2, 172]
abbrev dktX1_guest_5 : List UInt8 := dkwX1_guest_5 ++ []
def dkwX1_guest_4 : List UInt8 := [46, 172, 42, 180, 0, 48, 180, 0, 72, 27, 46, 172, 42, 180, 0, 48, 180, 0, 180, 27, 46, 172, 42]
abbrev dktX1_guest_4 : List UInt8 := dkwX1_guest_4 ++ dktX1_guest_5
def dkwX1_guest_3 : List UInt8 := [180, 0, 173, 27, 46, 172, 42, 180, 0, 48, 180, 0, 176, 27, 46, 172, 42, 180, 0, 48, 180, 0, 179, 27]
abbrev dktX1_guest_3 : List UInt8 := dkwX1_guest_3 ++ dktX1_guest_4
def dkwX1_guest_2 : List UInt8 := [42, 180, 0, 48, 180, 0, 167, 27, 46, 172, 42, 180, 0, 48, 180, 0, 170, 27, 46, 172, 42, 180, 0, 48]
abbrev dktX1_guest_2 : List UInt8 := dkwX1_guest_2 ++ dktX1_guest_3
def dkwX1_guest_1 : List UInt8 := [170, 0, 0, 0, 0, 142, 0, 0, 0, 0, 0, 0, 0, 8, 0, 0, 0, 50, 0, 0, 0, 60, 0, 0, 0, 70, 0, 0, 0, 80, 0, 0, 0, 90, 0, 0, 0, 100, 0, 0, 0, 110, 0, 0, 0, 120, 0, 0, 0, 130]
abbrev dktX1_guest_1 : List UInt8 := dkwX1_guest_1 ++ dktX1_guest_2
def dkwX1_guest_0 : List UInt8 := [42, 180, 0, 48, 27, 182, 0, 66, 154, 0, 5, 2, 172, 28]
abbrev dktX1_guest_0 : List UInt8 := dkwX1_guest_0 ++ dktX1_guest_1
theorem dksX1_guest_0 : cX1_guest.data.toList.drop 0 = dktX1_guest_0 := by decide +kernel
theorem dksX1_guest_1 : cX1_guest.data.toList.drop 14 = dktX1_guest_1 := dk_seg dksX1_guest_0 14 rfl rfl
theorem dksX1_guest_2 : cX1_guest.data.toList.drop 64 = dktX1_guest_2 := dk_seg dksX1_guest_1 50 rfl rfl
theorem dksX1_guest_3 : cX1_guest.data.toList.drop 88 = dktX1_guest_3 := dk_seg dksX1_guest_2 24 rfl rfl
theorem dksX1_guest_4 : cX1_guest.data.toList.drop 112 = dktX1_guest_4 := dk_seg dksX1_guest_3 24 rfl rfl
theorem dksX1_guest_5 : cX1_guest.data.toList.drop 135 = dktX1_guest_5 := dk_seg dksX1_guest_4 23 rfl rfl
theorem dX1_guest_0 : decode cX1_guest 0 = .ok (.aload_n 0, 1) := dk_42 (dk_at dksX1_guest_0 0 rfl rfl)
theorem dX1_guest_1 : decode cX1_guest 1 = .ok (.getfield 48, 3) := dk_180 0 48 (dk_at dksX1_guest_0 1 rfl rfl)
theorem dX1_guest_4 : decode cX1_guest 4 = .ok (.iload_n 1, 1) := dk_27 (dk_at dksX1_guest_0 4 rfl rfl)
theorem dX1_guest_5 : decode cX1_guest 5 = .ok (.invokevirtual 66, 3) := dk_182 0 66 (dk_at dksX1_guest_0 5 rfl rfl)
theorem dX1_guest_8 : decode cX1_guest 8 = .ok (.ifCond .ne 5, 3) := dk_154 0 5 (dk_at dksX1_guest_0 8 rfl rfl)
theorem dX1_guest_11 : decode cX1_guest 11 = .ok (.iconst (-1), 1) := dk_2 (dk_at dksX1_guest_0 11 rfl rfl)
theorem dX1_guest_12 : decode cX1_guest 12 = .ok (.ireturn, 1) := dk_172 (dk_at dksX1_guest_0 12 rfl rfl)
theorem dX1_guest_13 : decode cX1_guest 13 = .ok (.iload_n 2, 1) := dk_28 (dk_at dksX1_guest_0 13 rfl rfl)
theorem dX1_guest_14 : decode cX1_guest 14 = .ok (.tableswitch 142 0 8 #[50, 60, 70, 80, 90, 100, 110, 120, 130], 50) := by decide +kernel
theorem dX1_guest_64 : decode cX1_guest 64 = .ok (.aload_n 0, 1) := dk_42 (dk_at dksX1_guest_2 0 rfl rfl)
theorem dX1_guest_65 : decode cX1_guest 65 = .ok (.getfield 48, 3) := dk_180 0 48 (dk_at dksX1_guest_2 1 rfl rfl)
theorem dX1_guest_68 : decode cX1_guest 68 = .ok (.getfield 167, 3) := dk_180 0 167 (dk_at dksX1_guest_2 4 rfl rfl)
theorem dX1_guest_71 : decode cX1_guest 71 = .ok (.iload_n 1, 1) := dk_27 (dk_at dksX1_guest_2 7 rfl rfl)
theorem dX1_guest_72 : decode cX1_guest 72 = .ok (.iaload, 1) := dk_46 (dk_at dksX1_guest_2 8 rfl rfl)
theorem dX1_guest_73 : decode cX1_guest 73 = .ok (.ireturn, 1) := dk_172 (dk_at dksX1_guest_2 9 rfl rfl)
theorem dX1_guest_74 : decode cX1_guest 74 = .ok (.aload_n 0, 1) := dk_42 (dk_at dksX1_guest_2 10 rfl rfl)
theorem dX1_guest_75 : decode cX1_guest 75 = .ok (.getfield 48, 3) := dk_180 0 48 (dk_at dksX1_guest_2 11 rfl rfl)
theorem dX1_guest_78 : decode cX1_guest 78 = .ok (.getfield 170, 3) := dk_180 0 170 (dk_at dksX1_guest_2 14 rfl rfl)
theorem dX1_guest_81 : decode cX1_guest 81 = .ok (.iload_n 1, 1) := dk_27 (dk_at dksX1_guest_2 17 rfl rfl)
theorem dX1_guest_82 : decode cX1_guest 82 = .ok (.iaload, 1) := dk_46 (dk_at dksX1_guest_2 18 rfl rfl)
theorem dX1_guest_83 : decode cX1_guest 83 = .ok (.ireturn, 1) := dk_172 (dk_at dksX1_guest_2 19 rfl rfl)
theorem dX1_guest_84 : decode cX1_guest 84 = .ok (.aload_n 0, 1) := dk_42 (dk_at dksX1_guest_2 20 rfl rfl)
theorem dX1_guest_85 : decode cX1_guest 85 = .ok (.getfield 48, 3) := dk_180 0 48 (dk_at dksX1_guest_2 21 rfl rfl)
theorem dX1_guest_88 : decode cX1_guest 88 = .ok (.getfield 173, 3) := dk_180 0 173 (dk_at dksX1_guest_3 0 rfl rfl)
theorem dX1_guest_91 : decode cX1_guest 91 = .ok (.iload_n 1, 1) := dk_27 (dk_at dksX1_guest_3 3 rfl rfl)
theorem dX1_guest_92 : decode cX1_guest 92 = .ok (.iaload, 1) := dk_46 (dk_at dksX1_guest_3 4 rfl rfl)
theorem dX1_guest_93 : decode cX1_guest 93 = .ok (.ireturn, 1) := dk_172 (dk_at dksX1_guest_3 5 rfl rfl)
theorem dX1_guest_94 : decode cX1_guest 94 = .ok (.aload_n 0, 1) := dk_42 (dk_at dksX1_guest_3 6 rfl rfl)
theorem dX1_guest_95 : decode cX1_guest 95 = .ok (.getfield 48, 3) := dk_180 0 48 (dk_at dksX1_guest_3 7 rfl rfl)
theorem dX1_guest_98 : decode cX1_guest 98 = .ok (.getfield 176, 3) := dk_180 0 176 (dk_at dksX1_guest_3 10 rfl rfl)
theorem dX1_guest_101 : decode cX1_guest 101 = .ok (.iload_n 1, 1) := dk_27 (dk_at dksX1_guest_3 13 rfl rfl)
theorem dX1_guest_102 : decode cX1_guest 102 = .ok (.iaload, 1) := dk_46 (dk_at dksX1_guest_3 14 rfl rfl)
theorem dX1_guest_103 : decode cX1_guest 103 = .ok (.ireturn, 1) := dk_172 (dk_at dksX1_guest_3 15 rfl rfl)
theorem dX1_guest_104 : decode cX1_guest 104 = .ok (.aload_n 0, 1) := dk_42 (dk_at dksX1_guest_3 16 rfl rfl)
theorem dX1_guest_105 : decode cX1_guest 105 = .ok (.getfield 48, 3) := dk_180 0 48 (dk_at dksX1_guest_3 17 rfl rfl)
theorem dX1_guest_108 : decode cX1_guest 108 = .ok (.getfield 179, 3) := dk_180 0 179 (dk_at dksX1_guest_3 20 rfl rfl)
theorem dX1_guest_111 : decode cX1_guest 111 = .ok (.iload_n 1, 1) := dk_27 (dk_at dksX1_guest_3 23 rfl rfl)
theorem dX1_guest_112 : decode cX1_guest 112 = .ok (.iaload, 1) := dk_46 (dk_at dksX1_guest_4 0 rfl rfl)
theorem dX1_guest_113 : decode cX1_guest 113 = .ok (.ireturn, 1) := dk_172 (dk_at dksX1_guest_4 1 rfl rfl)
theorem dX1_guest_114 : decode cX1_guest 114 = .ok (.aload_n 0, 1) := dk_42 (dk_at dksX1_guest_4 2 rfl rfl)
theorem dX1_guest_115 : decode cX1_guest 115 = .ok (.getfield 48, 3) := dk_180 0 48 (dk_at dksX1_guest_4 3 rfl rfl)
theorem dX1_guest_118 : decode cX1_guest 118 = .ok (.getfield 72, 3) := dk_180 0 72 (dk_at dksX1_guest_4 6 rfl rfl)
theorem dX1_guest_121 : decode cX1_guest 121 = .ok (.iload_n 1, 1) := dk_27 (dk_at dksX1_guest_4 9 rfl rfl)
theorem dX1_guest_122 : decode cX1_guest 122 = .ok (.iaload, 1) := dk_46 (dk_at dksX1_guest_4 10 rfl rfl)
theorem dX1_guest_123 : decode cX1_guest 123 = .ok (.ireturn, 1) := dk_172 (dk_at dksX1_guest_4 11 rfl rfl)
theorem dX1_guest_124 : decode cX1_guest 124 = .ok (.aload_n 0, 1) := dk_42 (dk_at dksX1_guest_4 12 rfl rfl)
theorem dX1_guest_125 : decode cX1_guest 125 = .ok (.getfield 48, 3) := dk_180 0 48 (dk_at dksX1_guest_4 13 rfl rfl)
theorem dX1_guest_128 : decode cX1_guest 128 = .ok (.getfield 180, 3) := dk_180 0 180 (dk_at dksX1_guest_4 16 rfl rfl)
theorem dX1_guest_131 : decode cX1_guest 131 = .ok (.iload_n 1, 1) := dk_27 (dk_at dksX1_guest_4 19 rfl rfl)
theorem dX1_guest_132 : decode cX1_guest 132 = .ok (.iaload, 1) := dk_46 (dk_at dksX1_guest_4 20 rfl rfl)
theorem dX1_guest_133 : decode cX1_guest 133 = .ok (.ireturn, 1) := dk_172 (dk_at dksX1_guest_4 21 rfl rfl)
theorem dX1_guest_134 : decode cX1_guest 134 = .ok (.aload_n 0, 1) := dk_42 (dk_at dksX1_guest_4 22 rfl rfl)
theorem dX1_guest_135 : decode cX1_guest 135 = .ok (.getfield 48, 3) := dk_180 0 48 (dk_at dksX1_guest_5 0 rfl rfl)
theorem dX1_guest_138 : decode cX1_guest 138 = .ok (.getfield 183, 3) := dk_180 0 183 (dk_at dksX1_guest_5 3 rfl rfl)
theorem dX1_guest_141 : decode cX1_guest 141 = .ok (.iload_n 1, 1) := dk_27 (dk_at dksX1_guest_5 6 rfl rfl)
theorem dX1_guest_142 : decode cX1_guest 142 = .ok (.iaload, 1) := dk_46 (dk_at dksX1_guest_5 7 rfl rfl)
theorem dX1_guest_143 : decode cX1_guest 143 = .ok (.ireturn, 1) := dk_172 (dk_at dksX1_guest_5 8 rfl rfl)
theorem dX1_guest_144 : decode cX1_guest 144 = .ok (.aload_n 0, 1) := dk_42 (dk_at dksX1_guest_5 9 rfl rfl)
theorem dX1_guest_145 : decode cX1_guest 145 = .ok (.getfield 48, 3) := dk_180 0 48 (dk_at dksX1_guest_5 10 rfl rfl)
theorem dX1_guest_148 : decode cX1_guest 148 = .ok (.getfield 82, 3) := dk_180 0 82 (dk_at dksX1_guest_5 13 rfl rfl)
theorem dX1_guest_151 : decode cX1_guest 151 = .ok (.iload_n 1, 1) := dk_27 (dk_at dksX1_guest_5 16 rfl rfl)
theorem dX1_guest_152 : decode cX1_guest 152 = .ok (.ishr, 1) := dk_122 (dk_at dksX1_guest_5 17 rfl rfl)
theorem dX1_guest_153 : decode cX1_guest 153 = .ok (.iconst 1, 1) := dk_4 (dk_at dksX1_guest_5 18 rfl rfl)
theorem dX1_guest_154 : decode cX1_guest 154 = .ok (.iand, 1) := dk_126 (dk_at dksX1_guest_5 19 rfl rfl)
theorem dX1_guest_155 : decode cX1_guest 155 = .ok (.ireturn, 1) := dk_172 (dk_at dksX1_guest_5 20 rfl rfl)
theorem dX1_guest_156 : decode cX1_guest 156 = .ok (.iconst (-1), 1) := dk_2 (dk_at dksX1_guest_5 21 rfl rfl)
theorem dX1_guest_157 : decode cX1_guest 157 = .ok (.ireturn, 1) := dk_172 (dk_at dksX1_guest_5 22 rfl rfl)
abbrev cX1_comes : ByteArray := prog_1_method_11_code
def yX1_comes : MethodName := ⟨RX1, "comes", "(II)I"⟩
def dkwX1_comes_3 : List UInt8 := [100, 167, 0, 5, 16, 254, 172]
abbrev dktX1_comes_3 : List UInt8 := dkwX1_comes_3 ++ []
def dkwX1_comes_2 : List UInt8 := [180, 0, 48, 45, 192, 0, 7, 16, 9, 28, 182, 0, 56, 153, 0, 15, 42, 180, 0, 48, 180, 0, 186, 4]
abbrev dktX1_comes_2 : List UInt8 := dkwX1_comes_2 ++ dktX1_comes_3
def dkwX1_comes_1 : List UInt8 := [180, 0, 100, 78, 45, 199, 0, 6, 16, 245, 172, 45, 193, 0, 7, 154, 0, 6, 16, 244, 172, 42]
abbrev dktX1_comes_1 : List UInt8 := dkwX1_comes_1 ++ dktX1_comes_2
def dkwX1_comes_0 : List UInt8 := [27, 184, 0, 93, 153, 0, 10, 28, 184, 0, 44, 154, 0, 5, 2, 172, 42, 180, 0, 96, 27, 50]
abbrev dktX1_comes_0 : List UInt8 := dkwX1_comes_0 ++ dktX1_comes_1
theorem dksX1_comes_0 : cX1_comes.data.toList.drop 0 = dktX1_comes_0 := by decide +kernel
theorem dksX1_comes_1 : cX1_comes.data.toList.drop 22 = dktX1_comes_1 := dk_seg dksX1_comes_0 22 rfl rfl
theorem dksX1_comes_2 : cX1_comes.data.toList.drop 44 = dktX1_comes_2 := dk_seg dksX1_comes_1 22 rfl rfl
theorem dksX1_comes_3 : cX1_comes.data.toList.drop 68 = dktX1_comes_3 := dk_seg dksX1_comes_2 24 rfl rfl
theorem dX1_comes_0 : decode cX1_comes 0 = .ok (.iload_n 1, 1) := dk_27 (dk_at dksX1_comes_0 0 rfl rfl)
theorem dX1_comes_1 : decode cX1_comes 1 = .ok (.invokestatic 93, 3) := dk_184 0 93 (dk_at dksX1_comes_0 1 rfl rfl)
theorem dX1_comes_4 : decode cX1_comes 4 = .ok (.ifCond .eq 10, 3) := dk_153 0 10 (dk_at dksX1_comes_0 4 rfl rfl)
theorem dX1_comes_7 : decode cX1_comes 7 = .ok (.iload_n 2, 1) := dk_28 (dk_at dksX1_comes_0 7 rfl rfl)
theorem dX1_comes_8 : decode cX1_comes 8 = .ok (.invokestatic 44, 3) := dk_184 0 44 (dk_at dksX1_comes_0 8 rfl rfl)
theorem dX1_comes_11 : decode cX1_comes 11 = .ok (.ifCond .ne 5, 3) := dk_154 0 5 (dk_at dksX1_comes_0 11 rfl rfl)
theorem dX1_comes_14 : decode cX1_comes 14 = .ok (.iconst (-1), 1) := dk_2 (dk_at dksX1_comes_0 14 rfl rfl)
theorem dX1_comes_15 : decode cX1_comes 15 = .ok (.ireturn, 1) := dk_172 (dk_at dksX1_comes_0 15 rfl rfl)
theorem dX1_comes_16 : decode cX1_comes 16 = .ok (.aload_n 0, 1) := dk_42 (dk_at dksX1_comes_0 16 rfl rfl)
theorem dX1_comes_17 : decode cX1_comes 17 = .ok (.getfield 96, 3) := dk_180 0 96 (dk_at dksX1_comes_0 17 rfl rfl)
theorem dX1_comes_20 : decode cX1_comes 20 = .ok (.iload_n 1, 1) := dk_27 (dk_at dksX1_comes_0 20 rfl rfl)
theorem dX1_comes_21 : decode cX1_comes 21 = .ok (.aaload, 1) := dk_50 (dk_at dksX1_comes_0 21 rfl rfl)
theorem dX1_comes_22 : decode cX1_comes 22 = .ok (.getfield 100, 3) := dk_180 0 100 (dk_at dksX1_comes_1 0 rfl rfl)
theorem dX1_comes_25 : decode cX1_comes 25 = .ok (.astore_n 3, 1) := dk_78 (dk_at dksX1_comes_1 3 rfl rfl)
theorem dX1_comes_26 : decode cX1_comes 26 = .ok (.aload_n 3, 1) := dk_45 (dk_at dksX1_comes_1 4 rfl rfl)
theorem dX1_comes_27 : decode cX1_comes 27 = .ok (.ifnonnull 6, 3) := dk_199 0 6 (dk_at dksX1_comes_1 5 rfl rfl)
theorem dX1_comes_30 : decode cX1_comes 30 = .ok (.bipush (-11), 2) := dk_16 245 (dk_at dksX1_comes_1 8 rfl rfl)
theorem dX1_comes_32 : decode cX1_comes 32 = .ok (.ireturn, 1) := dk_172 (dk_at dksX1_comes_1 10 rfl rfl)
theorem dX1_comes_33 : decode cX1_comes 33 = .ok (.aload_n 3, 1) := dk_45 (dk_at dksX1_comes_1 11 rfl rfl)
theorem dX1_comes_34 : decode cX1_comes 34 = .ok (.instanceof 7, 3) := dk_193 0 7 (dk_at dksX1_comes_1 12 rfl rfl)
theorem dX1_comes_37 : decode cX1_comes 37 = .ok (.ifCond .ne 6, 3) := dk_154 0 6 (dk_at dksX1_comes_1 15 rfl rfl)
theorem dX1_comes_40 : decode cX1_comes 40 = .ok (.bipush (-12), 2) := dk_16 244 (dk_at dksX1_comes_1 18 rfl rfl)
theorem dX1_comes_42 : decode cX1_comes 42 = .ok (.ireturn, 1) := dk_172 (dk_at dksX1_comes_1 20 rfl rfl)
theorem dX1_comes_43 : decode cX1_comes 43 = .ok (.aload_n 0, 1) := dk_42 (dk_at dksX1_comes_1 21 rfl rfl)
theorem dX1_comes_44 : decode cX1_comes 44 = .ok (.getfield 48, 3) := dk_180 0 48 (dk_at dksX1_comes_2 0 rfl rfl)
theorem dX1_comes_47 : decode cX1_comes 47 = .ok (.aload_n 3, 1) := dk_45 (dk_at dksX1_comes_2 3 rfl rfl)
theorem dX1_comes_48 : decode cX1_comes 48 = .ok (.checkcast 7, 3) := dk_192 0 7 (dk_at dksX1_comes_2 4 rfl rfl)
theorem dX1_comes_51 : decode cX1_comes 51 = .ok (.bipush 9, 2) := dk_16 9 (dk_at dksX1_comes_2 7 rfl rfl)
theorem dX1_comes_53 : decode cX1_comes 53 = .ok (.iload_n 2, 1) := dk_28 (dk_at dksX1_comes_2 9 rfl rfl)
theorem dX1_comes_54 : decode cX1_comes 54 = .ok (.invokevirtual 56, 3) := dk_182 0 56 (dk_at dksX1_comes_2 10 rfl rfl)
theorem dX1_comes_57 : decode cX1_comes 57 = .ok (.ifCond .eq 15, 3) := dk_153 0 15 (dk_at dksX1_comes_2 13 rfl rfl)
theorem dX1_comes_60 : decode cX1_comes 60 = .ok (.aload_n 0, 1) := dk_42 (dk_at dksX1_comes_2 16 rfl rfl)
theorem dX1_comes_61 : decode cX1_comes 61 = .ok (.getfield 48, 3) := dk_180 0 48 (dk_at dksX1_comes_2 17 rfl rfl)
theorem dX1_comes_64 : decode cX1_comes 64 = .ok (.getfield 186, 3) := dk_180 0 186 (dk_at dksX1_comes_2 20 rfl rfl)
theorem dX1_comes_67 : decode cX1_comes 67 = .ok (.iconst 1, 1) := dk_4 (dk_at dksX1_comes_2 23 rfl rfl)
theorem dX1_comes_68 : decode cX1_comes 68 = .ok (.isub, 1) := dk_100 (dk_at dksX1_comes_3 0 rfl rfl)
theorem dX1_comes_69 : decode cX1_comes 69 = .ok (.goto 5, 3) := dk_167 0 5 (dk_at dksX1_comes_3 1 rfl rfl)
theorem dX1_comes_72 : decode cX1_comes 72 = .ok (.bipush (-2), 2) := dk_16 254 (dk_at dksX1_comes_3 4 rfl rfl)
theorem dX1_comes_74 : decode cX1_comes 74 = .ok (.ireturn, 1) := dk_172 (dk_at dksX1_comes_3 6 rfl rfl)
abbrev cX1_go : ByteArray := prog_1_method_12_code
def yX1_go : MethodName := ⟨RX1, "go", "(II)I"⟩
def dkwX1_go_1 : List UInt8 := [180, 0, 179, 27, 46, 62, 42, 180, 0, 48, 180, 0, 179, 27, 28, 79, 29, 172]
abbrev dktX1_go_1 : List UInt8 := dkwX1_go_1 ++ []
def dkwX1_go_0 : List UInt8 := [42, 180, 0, 48, 27, 182, 0, 66, 153, 0, 10, 28, 184, 0, 44, 154, 0, 5, 2, 172, 42, 180, 0, 48]
abbrev dktX1_go_0 : List UInt8 := dkwX1_go_0 ++ dktX1_go_1
theorem dksX1_go_0 : cX1_go.data.toList.drop 0 = dktX1_go_0 := by decide +kernel
theorem dksX1_go_1 : cX1_go.data.toList.drop 24 = dktX1_go_1 := dk_seg dksX1_go_0 24 rfl rfl
theorem dX1_go_0 : decode cX1_go 0 = .ok (.aload_n 0, 1) := dk_42 (dk_at dksX1_go_0 0 rfl rfl)
theorem dX1_go_1 : decode cX1_go 1 = .ok (.getfield 48, 3) := dk_180 0 48 (dk_at dksX1_go_0 1 rfl rfl)
theorem dX1_go_4 : decode cX1_go 4 = .ok (.iload_n 1, 1) := dk_27 (dk_at dksX1_go_0 4 rfl rfl)
theorem dX1_go_5 : decode cX1_go 5 = .ok (.invokevirtual 66, 3) := dk_182 0 66 (dk_at dksX1_go_0 5 rfl rfl)
theorem dX1_go_8 : decode cX1_go 8 = .ok (.ifCond .eq 10, 3) := dk_153 0 10 (dk_at dksX1_go_0 8 rfl rfl)
theorem dX1_go_11 : decode cX1_go 11 = .ok (.iload_n 2, 1) := dk_28 (dk_at dksX1_go_0 11 rfl rfl)
theorem dX1_go_12 : decode cX1_go 12 = .ok (.invokestatic 44, 3) := dk_184 0 44 (dk_at dksX1_go_0 12 rfl rfl)
theorem dX1_go_15 : decode cX1_go 15 = .ok (.ifCond .ne 5, 3) := dk_154 0 5 (dk_at dksX1_go_0 15 rfl rfl)
theorem dX1_go_18 : decode cX1_go 18 = .ok (.iconst (-1), 1) := dk_2 (dk_at dksX1_go_0 18 rfl rfl)
theorem dX1_go_19 : decode cX1_go 19 = .ok (.ireturn, 1) := dk_172 (dk_at dksX1_go_0 19 rfl rfl)
theorem dX1_go_20 : decode cX1_go 20 = .ok (.aload_n 0, 1) := dk_42 (dk_at dksX1_go_0 20 rfl rfl)
theorem dX1_go_21 : decode cX1_go 21 = .ok (.getfield 48, 3) := dk_180 0 48 (dk_at dksX1_go_0 21 rfl rfl)
theorem dX1_go_24 : decode cX1_go 24 = .ok (.getfield 179, 3) := dk_180 0 179 (dk_at dksX1_go_1 0 rfl rfl)
theorem dX1_go_27 : decode cX1_go 27 = .ok (.iload_n 1, 1) := dk_27 (dk_at dksX1_go_1 3 rfl rfl)
theorem dX1_go_28 : decode cX1_go 28 = .ok (.iaload, 1) := dk_46 (dk_at dksX1_go_1 4 rfl rfl)
theorem dX1_go_29 : decode cX1_go 29 = .ok (.istore_n 3, 1) := dk_62 (dk_at dksX1_go_1 5 rfl rfl)
theorem dX1_go_30 : decode cX1_go 30 = .ok (.aload_n 0, 1) := dk_42 (dk_at dksX1_go_1 6 rfl rfl)
theorem dX1_go_31 : decode cX1_go 31 = .ok (.getfield 48, 3) := dk_180 0 48 (dk_at dksX1_go_1 7 rfl rfl)
theorem dX1_go_34 : decode cX1_go 34 = .ok (.getfield 179, 3) := dk_180 0 179 (dk_at dksX1_go_1 10 rfl rfl)
theorem dX1_go_37 : decode cX1_go 37 = .ok (.iload_n 1, 1) := dk_27 (dk_at dksX1_go_1 13 rfl rfl)
theorem dX1_go_38 : decode cX1_go 38 = .ok (.iload_n 2, 1) := dk_28 (dk_at dksX1_go_1 14 rfl rfl)
theorem dX1_go_39 : decode cX1_go 39 = .ok (.iastore, 1) := dk_79 (dk_at dksX1_go_1 15 rfl rfl)
theorem dX1_go_40 : decode cX1_go 40 = .ok (.iload_n 3, 1) := dk_29 (dk_at dksX1_go_1 16 rfl rfl)
theorem dX1_go_41 : decode cX1_go 41 = .ok (.ireturn, 1) := dk_172 (dk_at dksX1_go_1 17 rfl rfl)
abbrev cX1_sip : ByteArray := prog_1_method_13_code
def yX1_sip : MethodName := ⟨RX1, "sip", "(I)I"⟩
def dkwX1_sip_2 : List UInt8 := [16, 253, 167, 0, 11, 42, 180, 0, 48, 27, 182, 0, 189, 172]
abbrev dktX1_sip_2 : List UInt8 := dkwX1_sip_2 ++ []
def dkwX1_sip_1 : List UInt8 := [159, 0, 23, 42, 180, 0, 48, 180, 0, 151, 42, 180, 0, 48, 180, 0, 72, 27, 46, 46, 154, 0, 8]
abbrev dktX1_sip_1 : List UInt8 := dkwX1_sip_1 ++ dktX1_sip_2
def dkwX1_sip_0 : List UInt8 := [42, 180, 0, 48, 27, 182, 0, 66, 154, 0, 5, 2, 172, 42, 180, 0, 48, 180, 0, 72, 27, 46, 16, 252]
abbrev dktX1_sip_0 : List UInt8 := dkwX1_sip_0 ++ dktX1_sip_1
theorem dksX1_sip_0 : cX1_sip.data.toList.drop 0 = dktX1_sip_0 := by decide +kernel
theorem dksX1_sip_1 : cX1_sip.data.toList.drop 24 = dktX1_sip_1 := dk_seg dksX1_sip_0 24 rfl rfl
theorem dksX1_sip_2 : cX1_sip.data.toList.drop 47 = dktX1_sip_2 := dk_seg dksX1_sip_1 23 rfl rfl
theorem dX1_sip_0 : decode cX1_sip 0 = .ok (.aload_n 0, 1) := dk_42 (dk_at dksX1_sip_0 0 rfl rfl)
theorem dX1_sip_1 : decode cX1_sip 1 = .ok (.getfield 48, 3) := dk_180 0 48 (dk_at dksX1_sip_0 1 rfl rfl)
theorem dX1_sip_4 : decode cX1_sip 4 = .ok (.iload_n 1, 1) := dk_27 (dk_at dksX1_sip_0 4 rfl rfl)
theorem dX1_sip_5 : decode cX1_sip 5 = .ok (.invokevirtual 66, 3) := dk_182 0 66 (dk_at dksX1_sip_0 5 rfl rfl)
theorem dX1_sip_8 : decode cX1_sip 8 = .ok (.ifCond .ne 5, 3) := dk_154 0 5 (dk_at dksX1_sip_0 8 rfl rfl)
theorem dX1_sip_11 : decode cX1_sip 11 = .ok (.iconst (-1), 1) := dk_2 (dk_at dksX1_sip_0 11 rfl rfl)
theorem dX1_sip_12 : decode cX1_sip 12 = .ok (.ireturn, 1) := dk_172 (dk_at dksX1_sip_0 12 rfl rfl)
theorem dX1_sip_13 : decode cX1_sip 13 = .ok (.aload_n 0, 1) := dk_42 (dk_at dksX1_sip_0 13 rfl rfl)
theorem dX1_sip_14 : decode cX1_sip 14 = .ok (.getfield 48, 3) := dk_180 0 48 (dk_at dksX1_sip_0 14 rfl rfl)
theorem dX1_sip_17 : decode cX1_sip 17 = .ok (.getfield 72, 3) := dk_180 0 72 (dk_at dksX1_sip_0 17 rfl rfl)
theorem dX1_sip_20 : decode cX1_sip 20 = .ok (.iload_n 1, 1) := dk_27 (dk_at dksX1_sip_0 20 rfl rfl)
theorem dX1_sip_21 : decode cX1_sip 21 = .ok (.iaload, 1) := dk_46 (dk_at dksX1_sip_0 21 rfl rfl)
theorem dX1_sip_22 : decode cX1_sip 22 = .ok (.bipush (-4), 2) := dk_16 252 (dk_at dksX1_sip_0 22 rfl rfl)
theorem dX1_sip_24 : decode cX1_sip 24 = .ok (.if_icmp .eq 23, 3) := dk_159 0 23 (dk_at dksX1_sip_1 0 rfl rfl)
theorem dX1_sip_27 : decode cX1_sip 27 = .ok (.aload_n 0, 1) := dk_42 (dk_at dksX1_sip_1 3 rfl rfl)
theorem dX1_sip_28 : decode cX1_sip 28 = .ok (.getfield 48, 3) := dk_180 0 48 (dk_at dksX1_sip_1 4 rfl rfl)
theorem dX1_sip_31 : decode cX1_sip 31 = .ok (.getfield 151, 3) := dk_180 0 151 (dk_at dksX1_sip_1 7 rfl rfl)
theorem dX1_sip_34 : decode cX1_sip 34 = .ok (.aload_n 0, 1) := dk_42 (dk_at dksX1_sip_1 10 rfl rfl)
theorem dX1_sip_35 : decode cX1_sip 35 = .ok (.getfield 48, 3) := dk_180 0 48 (dk_at dksX1_sip_1 11 rfl rfl)
theorem dX1_sip_38 : decode cX1_sip 38 = .ok (.getfield 72, 3) := dk_180 0 72 (dk_at dksX1_sip_1 14 rfl rfl)
theorem dX1_sip_41 : decode cX1_sip 41 = .ok (.iload_n 1, 1) := dk_27 (dk_at dksX1_sip_1 17 rfl rfl)
theorem dX1_sip_42 : decode cX1_sip 42 = .ok (.iaload, 1) := dk_46 (dk_at dksX1_sip_1 18 rfl rfl)
theorem dX1_sip_43 : decode cX1_sip 43 = .ok (.iaload, 1) := dk_46 (dk_at dksX1_sip_1 19 rfl rfl)
theorem dX1_sip_44 : decode cX1_sip 44 = .ok (.ifCond .ne 8, 3) := dk_154 0 8 (dk_at dksX1_sip_1 20 rfl rfl)
theorem dX1_sip_47 : decode cX1_sip 47 = .ok (.bipush (-3), 2) := dk_16 253 (dk_at dksX1_sip_2 0 rfl rfl)
theorem dX1_sip_49 : decode cX1_sip 49 = .ok (.goto 11, 3) := dk_167 0 11 (dk_at dksX1_sip_2 2 rfl rfl)
theorem dX1_sip_52 : decode cX1_sip 52 = .ok (.aload_n 0, 1) := dk_42 (dk_at dksX1_sip_2 5 rfl rfl)
theorem dX1_sip_53 : decode cX1_sip 53 = .ok (.getfield 48, 3) := dk_180 0 48 (dk_at dksX1_sip_2 6 rfl rfl)
theorem dX1_sip_56 : decode cX1_sip 56 = .ok (.iload_n 1, 1) := dk_27 (dk_at dksX1_sip_2 9 rfl rfl)
theorem dX1_sip_57 : decode cX1_sip 57 = .ok (.invokevirtual 189, 3) := dk_182 0 189 (dk_at dksX1_sip_2 10 rfl rfl)
theorem dX1_sip_60 : decode cX1_sip 60 = .ok (.ireturn, 1) := dk_172 (dk_at dksX1_sip_2 13 rfl rfl)
abbrev cX1_lay : ByteArray := prog_1_method_14_code
def yX1_lay : MethodName := ⟨RX1, "lay", "(I)I"⟩
def dkwX1_lay_1 : List UInt8 := [160, 0, 8, 16, 253, 167, 0, 11, 42, 180, 0, 48, 27, 182, 0, 193, 172]
abbrev dktX1_lay_1 : List UInt8 := dkwX1_lay_1 ++ []
def dkwX1_lay_0 : List UInt8 := [42, 180, 0, 48, 27, 182, 0, 66, 154, 0, 5, 2, 172, 42, 180, 0, 48, 180, 0, 72, 27, 46, 16, 252]
abbrev dktX1_lay_0 : List UInt8 := dkwX1_lay_0 ++ dktX1_lay_1
theorem dksX1_lay_0 : cX1_lay.data.toList.drop 0 = dktX1_lay_0 := by decide +kernel
theorem dksX1_lay_1 : cX1_lay.data.toList.drop 24 = dktX1_lay_1 := dk_seg dksX1_lay_0 24 rfl rfl
theorem dX1_lay_0 : decode cX1_lay 0 = .ok (.aload_n 0, 1) := dk_42 (dk_at dksX1_lay_0 0 rfl rfl)
theorem dX1_lay_1 : decode cX1_lay 1 = .ok (.getfield 48, 3) := dk_180 0 48 (dk_at dksX1_lay_0 1 rfl rfl)
theorem dX1_lay_4 : decode cX1_lay 4 = .ok (.iload_n 1, 1) := dk_27 (dk_at dksX1_lay_0 4 rfl rfl)
theorem dX1_lay_5 : decode cX1_lay 5 = .ok (.invokevirtual 66, 3) := dk_182 0 66 (dk_at dksX1_lay_0 5 rfl rfl)
theorem dX1_lay_8 : decode cX1_lay 8 = .ok (.ifCond .ne 5, 3) := dk_154 0 5 (dk_at dksX1_lay_0 8 rfl rfl)
theorem dX1_lay_11 : decode cX1_lay 11 = .ok (.iconst (-1), 1) := dk_2 (dk_at dksX1_lay_0 11 rfl rfl)
theorem dX1_lay_12 : decode cX1_lay 12 = .ok (.ireturn, 1) := dk_172 (dk_at dksX1_lay_0 12 rfl rfl)
theorem dX1_lay_13 : decode cX1_lay 13 = .ok (.aload_n 0, 1) := dk_42 (dk_at dksX1_lay_0 13 rfl rfl)
theorem dX1_lay_14 : decode cX1_lay 14 = .ok (.getfield 48, 3) := dk_180 0 48 (dk_at dksX1_lay_0 14 rfl rfl)
theorem dX1_lay_17 : decode cX1_lay 17 = .ok (.getfield 72, 3) := dk_180 0 72 (dk_at dksX1_lay_0 17 rfl rfl)
theorem dX1_lay_20 : decode cX1_lay 20 = .ok (.iload_n 1, 1) := dk_27 (dk_at dksX1_lay_0 20 rfl rfl)
theorem dX1_lay_21 : decode cX1_lay 21 = .ok (.iaload, 1) := dk_46 (dk_at dksX1_lay_0 21 rfl rfl)
theorem dX1_lay_22 : decode cX1_lay 22 = .ok (.bipush (-4), 2) := dk_16 252 (dk_at dksX1_lay_0 22 rfl rfl)
theorem dX1_lay_24 : decode cX1_lay 24 = .ok (.if_icmp .ne 8, 3) := dk_160 0 8 (dk_at dksX1_lay_1 0 rfl rfl)
theorem dX1_lay_27 : decode cX1_lay 27 = .ok (.bipush (-3), 2) := dk_16 253 (dk_at dksX1_lay_1 3 rfl rfl)
theorem dX1_lay_29 : decode cX1_lay 29 = .ok (.goto 11, 3) := dk_167 0 11 (dk_at dksX1_lay_1 5 rfl rfl)
theorem dX1_lay_32 : decode cX1_lay 32 = .ok (.aload_n 0, 1) := dk_42 (dk_at dksX1_lay_1 8 rfl rfl)
theorem dX1_lay_33 : decode cX1_lay 33 = .ok (.getfield 48, 3) := dk_180 0 48 (dk_at dksX1_lay_1 9 rfl rfl)
theorem dX1_lay_36 : decode cX1_lay 36 = .ok (.iload_n 1, 1) := dk_27 (dk_at dksX1_lay_1 12 rfl rfl)
theorem dX1_lay_37 : decode cX1_lay 37 = .ok (.invokevirtual 193, 3) := dk_182 0 193 (dk_at dksX1_lay_1 13 rfl rfl)
theorem dX1_lay_40 : decode cX1_lay 40 = .ok (.ireturn, 1) := dk_172 (dk_at dksX1_lay_1 16 rfl rfl)
abbrev cX1_take : ByteArray := prog_1_method_15_code
def yX1_take : MethodName := ⟨RX1, "take", "(I)I"⟩
def dkwX1_take_1 : List UInt8 := [159, 0, 8, 16, 253, 167, 0, 11, 42, 180, 0, 48, 27, 182, 0, 196, 172]
abbrev dktX1_take_1 : List UInt8 := dkwX1_take_1 ++ []
def dkwX1_take_0 : List UInt8 := [42, 180, 0, 48, 27, 182, 0, 66, 154, 0, 5, 2, 172, 42, 180, 0, 48, 180, 0, 72, 27, 46, 16, 252]
abbrev dktX1_take_0 : List UInt8 := dkwX1_take_0 ++ dktX1_take_1
theorem dksX1_take_0 : cX1_take.data.toList.drop 0 = dktX1_take_0 := by decide +kernel
theorem dksX1_take_1 : cX1_take.data.toList.drop 24 = dktX1_take_1 := dk_seg dksX1_take_0 24 rfl rfl
theorem dX1_take_0 : decode cX1_take 0 = .ok (.aload_n 0, 1) := dk_42 (dk_at dksX1_take_0 0 rfl rfl)
theorem dX1_take_1 : decode cX1_take 1 = .ok (.getfield 48, 3) := dk_180 0 48 (dk_at dksX1_take_0 1 rfl rfl)
theorem dX1_take_4 : decode cX1_take 4 = .ok (.iload_n 1, 1) := dk_27 (dk_at dksX1_take_0 4 rfl rfl)
theorem dX1_take_5 : decode cX1_take 5 = .ok (.invokevirtual 66, 3) := dk_182 0 66 (dk_at dksX1_take_0 5 rfl rfl)
theorem dX1_take_8 : decode cX1_take 8 = .ok (.ifCond .ne 5, 3) := dk_154 0 5 (dk_at dksX1_take_0 8 rfl rfl)
theorem dX1_take_11 : decode cX1_take 11 = .ok (.iconst (-1), 1) := dk_2 (dk_at dksX1_take_0 11 rfl rfl)
theorem dX1_take_12 : decode cX1_take 12 = .ok (.ireturn, 1) := dk_172 (dk_at dksX1_take_0 12 rfl rfl)
theorem dX1_take_13 : decode cX1_take 13 = .ok (.aload_n 0, 1) := dk_42 (dk_at dksX1_take_0 13 rfl rfl)
theorem dX1_take_14 : decode cX1_take 14 = .ok (.getfield 48, 3) := dk_180 0 48 (dk_at dksX1_take_0 14 rfl rfl)
theorem dX1_take_17 : decode cX1_take 17 = .ok (.getfield 72, 3) := dk_180 0 72 (dk_at dksX1_take_0 17 rfl rfl)
theorem dX1_take_20 : decode cX1_take 20 = .ok (.iload_n 1, 1) := dk_27 (dk_at dksX1_take_0 20 rfl rfl)
theorem dX1_take_21 : decode cX1_take 21 = .ok (.iaload, 1) := dk_46 (dk_at dksX1_take_0 21 rfl rfl)
theorem dX1_take_22 : decode cX1_take 22 = .ok (.bipush (-4), 2) := dk_16 252 (dk_at dksX1_take_0 22 rfl rfl)
theorem dX1_take_24 : decode cX1_take 24 = .ok (.if_icmp .eq 8, 3) := dk_159 0 8 (dk_at dksX1_take_1 0 rfl rfl)
theorem dX1_take_27 : decode cX1_take 27 = .ok (.bipush (-3), 2) := dk_16 253 (dk_at dksX1_take_1 3 rfl rfl)
theorem dX1_take_29 : decode cX1_take 29 = .ok (.goto 11, 3) := dk_167 0 11 (dk_at dksX1_take_1 5 rfl rfl)
theorem dX1_take_32 : decode cX1_take 32 = .ok (.aload_n 0, 1) := dk_42 (dk_at dksX1_take_1 8 rfl rfl)
theorem dX1_take_33 : decode cX1_take 33 = .ok (.getfield 48, 3) := dk_180 0 48 (dk_at dksX1_take_1 9 rfl rfl)
theorem dX1_take_36 : decode cX1_take 36 = .ok (.iload_n 1, 1) := dk_27 (dk_at dksX1_take_1 12 rfl rfl)
theorem dX1_take_37 : decode cX1_take 37 = .ok (.invokevirtual 196, 3) := dk_182 0 196 (dk_at dksX1_take_1 13 rfl rfl)
theorem dX1_take_40 : decode cX1_take 40 = .ok (.ireturn, 1) := dk_172 (dk_at dksX1_take_1 16 rfl rfl)
abbrev cX1_fill : ByteArray := prog_1_method_16_code
def yX1_fill : MethodName := ⟨RX1, "fill", "(I)I"⟩
def dkwX1_fill_3 : List UInt8 := [167, 255, 199, 28, 172]
abbrev dktX1_fill_3 : List UInt8 := dkwX1_fill_3 ++ []
def dkwX1_fill_2 : List UInt8 := [161, 0, 6, 167, 0, 17, 42, 180, 0, 48, 180, 0, 151, 29, 16, 9, 79, 132, 2, 1, 132, 3, 1]
abbrev dktX1_fill_2 : List UInt8 := dkwX1_fill_2 ++ dktX1_fill_3
def dkwX1_fill_1 : List UInt8 := [42, 180, 0, 48, 180, 0, 154, 29, 46, 27, 160, 0, 33, 42, 180, 0, 48, 180, 0, 151, 29, 46, 8]
abbrev dktX1_fill_1 : List UInt8 := dkwX1_fill_1 ++ dktX1_fill_2
def dkwX1_fill_0 : List UInt8 := [27, 184, 0, 44, 154, 0, 5, 2, 172, 3, 61, 3, 62, 29, 42, 180, 0, 48, 180, 0, 186, 162, 0, 52]
abbrev dktX1_fill_0 : List UInt8 := dkwX1_fill_0 ++ dktX1_fill_1
theorem dksX1_fill_0 : cX1_fill.data.toList.drop 0 = dktX1_fill_0 := by decide +kernel
theorem dksX1_fill_1 : cX1_fill.data.toList.drop 24 = dktX1_fill_1 := dk_seg dksX1_fill_0 24 rfl rfl
theorem dksX1_fill_2 : cX1_fill.data.toList.drop 47 = dktX1_fill_2 := dk_seg dksX1_fill_1 23 rfl rfl
theorem dksX1_fill_3 : cX1_fill.data.toList.drop 70 = dktX1_fill_3 := dk_seg dksX1_fill_2 23 rfl rfl
theorem dX1_fill_0 : decode cX1_fill 0 = .ok (.iload_n 1, 1) := dk_27 (dk_at dksX1_fill_0 0 rfl rfl)
theorem dX1_fill_1 : decode cX1_fill 1 = .ok (.invokestatic 44, 3) := dk_184 0 44 (dk_at dksX1_fill_0 1 rfl rfl)
theorem dX1_fill_4 : decode cX1_fill 4 = .ok (.ifCond .ne 5, 3) := dk_154 0 5 (dk_at dksX1_fill_0 4 rfl rfl)
theorem dX1_fill_7 : decode cX1_fill 7 = .ok (.iconst (-1), 1) := dk_2 (dk_at dksX1_fill_0 7 rfl rfl)
theorem dX1_fill_8 : decode cX1_fill 8 = .ok (.ireturn, 1) := dk_172 (dk_at dksX1_fill_0 8 rfl rfl)
theorem dX1_fill_9 : decode cX1_fill 9 = .ok (.iconst 0, 1) := dk_3 (dk_at dksX1_fill_0 9 rfl rfl)
theorem dX1_fill_10 : decode cX1_fill 10 = .ok (.istore_n 2, 1) := dk_61 (dk_at dksX1_fill_0 10 rfl rfl)
theorem dX1_fill_11 : decode cX1_fill 11 = .ok (.iconst 0, 1) := dk_3 (dk_at dksX1_fill_0 11 rfl rfl)
theorem dX1_fill_12 : decode cX1_fill 12 = .ok (.istore_n 3, 1) := dk_62 (dk_at dksX1_fill_0 12 rfl rfl)
theorem dX1_fill_13 : decode cX1_fill 13 = .ok (.iload_n 3, 1) := dk_29 (dk_at dksX1_fill_0 13 rfl rfl)
theorem dX1_fill_14 : decode cX1_fill 14 = .ok (.aload_n 0, 1) := dk_42 (dk_at dksX1_fill_0 14 rfl rfl)
theorem dX1_fill_15 : decode cX1_fill 15 = .ok (.getfield 48, 3) := dk_180 0 48 (dk_at dksX1_fill_0 15 rfl rfl)
theorem dX1_fill_18 : decode cX1_fill 18 = .ok (.getfield 186, 3) := dk_180 0 186 (dk_at dksX1_fill_0 18 rfl rfl)
theorem dX1_fill_21 : decode cX1_fill 21 = .ok (.if_icmp .ge 52, 3) := dk_162 0 52 (dk_at dksX1_fill_0 21 rfl rfl)
theorem dX1_fill_24 : decode cX1_fill 24 = .ok (.aload_n 0, 1) := dk_42 (dk_at dksX1_fill_1 0 rfl rfl)
theorem dX1_fill_25 : decode cX1_fill 25 = .ok (.getfield 48, 3) := dk_180 0 48 (dk_at dksX1_fill_1 1 rfl rfl)
theorem dX1_fill_28 : decode cX1_fill 28 = .ok (.getfield 154, 3) := dk_180 0 154 (dk_at dksX1_fill_1 4 rfl rfl)
theorem dX1_fill_31 : decode cX1_fill 31 = .ok (.iload_n 3, 1) := dk_29 (dk_at dksX1_fill_1 7 rfl rfl)
theorem dX1_fill_32 : decode cX1_fill 32 = .ok (.iaload, 1) := dk_46 (dk_at dksX1_fill_1 8 rfl rfl)
theorem dX1_fill_33 : decode cX1_fill 33 = .ok (.iload_n 1, 1) := dk_27 (dk_at dksX1_fill_1 9 rfl rfl)
theorem dX1_fill_34 : decode cX1_fill 34 = .ok (.if_icmp .ne 33, 3) := dk_160 0 33 (dk_at dksX1_fill_1 10 rfl rfl)
theorem dX1_fill_37 : decode cX1_fill 37 = .ok (.aload_n 0, 1) := dk_42 (dk_at dksX1_fill_1 13 rfl rfl)
theorem dX1_fill_38 : decode cX1_fill 38 = .ok (.getfield 48, 3) := dk_180 0 48 (dk_at dksX1_fill_1 14 rfl rfl)
theorem dX1_fill_41 : decode cX1_fill 41 = .ok (.getfield 151, 3) := dk_180 0 151 (dk_at dksX1_fill_1 17 rfl rfl)
theorem dX1_fill_44 : decode cX1_fill 44 = .ok (.iload_n 3, 1) := dk_29 (dk_at dksX1_fill_1 20 rfl rfl)
theorem dX1_fill_45 : decode cX1_fill 45 = .ok (.iaload, 1) := dk_46 (dk_at dksX1_fill_1 21 rfl rfl)
theorem dX1_fill_46 : decode cX1_fill 46 = .ok (.iconst 5, 1) := dk_8 (dk_at dksX1_fill_1 22 rfl rfl)
theorem dX1_fill_47 : decode cX1_fill 47 = .ok (.if_icmp .lt 6, 3) := dk_161 0 6 (dk_at dksX1_fill_2 0 rfl rfl)
theorem dX1_fill_50 : decode cX1_fill 50 = .ok (.goto 17, 3) := dk_167 0 17 (dk_at dksX1_fill_2 3 rfl rfl)
theorem dX1_fill_53 : decode cX1_fill 53 = .ok (.aload_n 0, 1) := dk_42 (dk_at dksX1_fill_2 6 rfl rfl)
theorem dX1_fill_54 : decode cX1_fill 54 = .ok (.getfield 48, 3) := dk_180 0 48 (dk_at dksX1_fill_2 7 rfl rfl)
theorem dX1_fill_57 : decode cX1_fill 57 = .ok (.getfield 151, 3) := dk_180 0 151 (dk_at dksX1_fill_2 10 rfl rfl)
theorem dX1_fill_60 : decode cX1_fill 60 = .ok (.iload_n 3, 1) := dk_29 (dk_at dksX1_fill_2 13 rfl rfl)
theorem dX1_fill_61 : decode cX1_fill 61 = .ok (.bipush 9, 2) := dk_16 9 (dk_at dksX1_fill_2 14 rfl rfl)
theorem dX1_fill_63 : decode cX1_fill 63 = .ok (.iastore, 1) := dk_79 (dk_at dksX1_fill_2 16 rfl rfl)
theorem dX1_fill_64 : decode cX1_fill 64 = .ok (.iinc 2 1, 3) := dk_132 2 1 (dk_at dksX1_fill_2 17 rfl rfl)
theorem dX1_fill_67 : decode cX1_fill 67 = .ok (.iinc 3 1, 3) := dk_132 3 1 (dk_at dksX1_fill_2 20 rfl rfl)
theorem dX1_fill_70 : decode cX1_fill 70 = .ok (.goto (-57), 3) := dk_167 255 199 (dk_at dksX1_fill_3 0 rfl rfl)
theorem dX1_fill_73 : decode cX1_fill 73 = .ok (.iload_n 2, 1) := dk_28 (dk_at dksX1_fill_3 3 rfl rfl)
theorem dX1_fill_74 : decode cX1_fill 74 = .ok (.ireturn, 1) := dk_172 (dk_at dksX1_fill_3 4 rfl rfl)
abbrev cX1_clear : ByteArray := prog_1_method_17_code
def yX1_clear : MethodName := ⟨RX1, "clear", "(II)I"⟩
def dkwX1_clear_4 : List UInt8 := [29, 172]
abbrev dktX1_clear_4 : List UInt8 := dkwX1_clear_4 ++ []
def dkwX1_clear_3 : List UInt8 := [162, 0, 6, 167, 0, 15, 42, 180, 0, 48, 21, 4, 182, 0, 202, 132, 3, 1, 132, 4, 1, 167, 255, 190]
abbrev dktX1_clear_3 : List UInt8 := dkwX1_clear_3 ++ dktX1_clear_4
def dkwX1_clear_2 : List UInt8 := [160, 0, 40, 42, 180, 0, 48, 180, 0, 199, 42, 180, 0, 48, 180, 0, 164, 21, 4, 46, 100, 28]
abbrev dktX1_clear_2 : List UInt8 := dkwX1_clear_2 ++ dktX1_clear_3
def dkwX1_clear_1 : List UInt8 := [21, 4, 42, 180, 0, 48, 180, 0, 186, 162, 0, 60, 42, 180, 0, 48, 180, 0, 154, 21, 4, 46, 27]
abbrev dktX1_clear_1 : List UInt8 := dkwX1_clear_1 ++ dktX1_clear_2
def dkwX1_clear_0 : List UInt8 := [27, 184, 0, 44, 153, 0, 13, 28, 3, 16, 99, 184, 0, 3, 154, 0, 5, 2, 172, 3, 62, 3, 54, 4]
abbrev dktX1_clear_0 : List UInt8 := dkwX1_clear_0 ++ dktX1_clear_1
theorem dksX1_clear_0 : cX1_clear.data.toList.drop 0 = dktX1_clear_0 := by decide +kernel
theorem dksX1_clear_1 : cX1_clear.data.toList.drop 24 = dktX1_clear_1 := dk_seg dksX1_clear_0 24 rfl rfl
theorem dksX1_clear_2 : cX1_clear.data.toList.drop 47 = dktX1_clear_2 := dk_seg dksX1_clear_1 23 rfl rfl
theorem dksX1_clear_3 : cX1_clear.data.toList.drop 69 = dktX1_clear_3 := dk_seg dksX1_clear_2 22 rfl rfl
theorem dksX1_clear_4 : cX1_clear.data.toList.drop 93 = dktX1_clear_4 := dk_seg dksX1_clear_3 24 rfl rfl
theorem dX1_clear_0 : decode cX1_clear 0 = .ok (.iload_n 1, 1) := dk_27 (dk_at dksX1_clear_0 0 rfl rfl)
theorem dX1_clear_1 : decode cX1_clear 1 = .ok (.invokestatic 44, 3) := dk_184 0 44 (dk_at dksX1_clear_0 1 rfl rfl)
theorem dX1_clear_4 : decode cX1_clear 4 = .ok (.ifCond .eq 13, 3) := dk_153 0 13 (dk_at dksX1_clear_0 4 rfl rfl)
theorem dX1_clear_7 : decode cX1_clear 7 = .ok (.iload_n 2, 1) := dk_28 (dk_at dksX1_clear_0 7 rfl rfl)
theorem dX1_clear_8 : decode cX1_clear 8 = .ok (.iconst 0, 1) := dk_3 (dk_at dksX1_clear_0 8 rfl rfl)
theorem dX1_clear_9 : decode cX1_clear 9 = .ok (.bipush 99, 2) := dk_16 99 (dk_at dksX1_clear_0 9 rfl rfl)
theorem dX1_clear_11 : decode cX1_clear 11 = .ok (.invokestatic 3, 3) := dk_184 0 3 (dk_at dksX1_clear_0 11 rfl rfl)
theorem dX1_clear_14 : decode cX1_clear 14 = .ok (.ifCond .ne 5, 3) := dk_154 0 5 (dk_at dksX1_clear_0 14 rfl rfl)
theorem dX1_clear_17 : decode cX1_clear 17 = .ok (.iconst (-1), 1) := dk_2 (dk_at dksX1_clear_0 17 rfl rfl)
theorem dX1_clear_18 : decode cX1_clear 18 = .ok (.ireturn, 1) := dk_172 (dk_at dksX1_clear_0 18 rfl rfl)
theorem dX1_clear_19 : decode cX1_clear 19 = .ok (.iconst 0, 1) := dk_3 (dk_at dksX1_clear_0 19 rfl rfl)
theorem dX1_clear_20 : decode cX1_clear 20 = .ok (.istore_n 3, 1) := dk_62 (dk_at dksX1_clear_0 20 rfl rfl)
theorem dX1_clear_21 : decode cX1_clear 21 = .ok (.iconst 0, 1) := dk_3 (dk_at dksX1_clear_0 21 rfl rfl)
theorem dX1_clear_22 : decode cX1_clear 22 = .ok (.istore 4, 2) := dk_54 4 (dk_at dksX1_clear_0 22 rfl rfl)
theorem dX1_clear_24 : decode cX1_clear 24 = .ok (.iload 4, 2) := dk_21 4 (dk_at dksX1_clear_1 0 rfl rfl)
theorem dX1_clear_26 : decode cX1_clear 26 = .ok (.aload_n 0, 1) := dk_42 (dk_at dksX1_clear_1 2 rfl rfl)
theorem dX1_clear_27 : decode cX1_clear 27 = .ok (.getfield 48, 3) := dk_180 0 48 (dk_at dksX1_clear_1 3 rfl rfl)
theorem dX1_clear_30 : decode cX1_clear 30 = .ok (.getfield 186, 3) := dk_180 0 186 (dk_at dksX1_clear_1 6 rfl rfl)
theorem dX1_clear_33 : decode cX1_clear 33 = .ok (.if_icmp .ge 60, 3) := dk_162 0 60 (dk_at dksX1_clear_1 9 rfl rfl)
theorem dX1_clear_36 : decode cX1_clear 36 = .ok (.aload_n 0, 1) := dk_42 (dk_at dksX1_clear_1 12 rfl rfl)
theorem dX1_clear_37 : decode cX1_clear 37 = .ok (.getfield 48, 3) := dk_180 0 48 (dk_at dksX1_clear_1 13 rfl rfl)
theorem dX1_clear_40 : decode cX1_clear 40 = .ok (.getfield 154, 3) := dk_180 0 154 (dk_at dksX1_clear_1 16 rfl rfl)
theorem dX1_clear_43 : decode cX1_clear 43 = .ok (.iload 4, 2) := dk_21 4 (dk_at dksX1_clear_1 19 rfl rfl)
theorem dX1_clear_45 : decode cX1_clear 45 = .ok (.iaload, 1) := dk_46 (dk_at dksX1_clear_1 21 rfl rfl)
theorem dX1_clear_46 : decode cX1_clear 46 = .ok (.iload_n 1, 1) := dk_27 (dk_at dksX1_clear_1 22 rfl rfl)
theorem dX1_clear_47 : decode cX1_clear 47 = .ok (.if_icmp .ne 40, 3) := dk_160 0 40 (dk_at dksX1_clear_2 0 rfl rfl)
theorem dX1_clear_50 : decode cX1_clear 50 = .ok (.aload_n 0, 1) := dk_42 (dk_at dksX1_clear_2 3 rfl rfl)
theorem dX1_clear_51 : decode cX1_clear 51 = .ok (.getfield 48, 3) := dk_180 0 48 (dk_at dksX1_clear_2 4 rfl rfl)
theorem dX1_clear_54 : decode cX1_clear 54 = .ok (.getfield 199, 3) := dk_180 0 199 (dk_at dksX1_clear_2 7 rfl rfl)
theorem dX1_clear_57 : decode cX1_clear 57 = .ok (.aload_n 0, 1) := dk_42 (dk_at dksX1_clear_2 10 rfl rfl)
theorem dX1_clear_58 : decode cX1_clear 58 = .ok (.getfield 48, 3) := dk_180 0 48 (dk_at dksX1_clear_2 11 rfl rfl)
theorem dX1_clear_61 : decode cX1_clear 61 = .ok (.getfield 164, 3) := dk_180 0 164 (dk_at dksX1_clear_2 14 rfl rfl)
theorem dX1_clear_64 : decode cX1_clear 64 = .ok (.iload 4, 2) := dk_21 4 (dk_at dksX1_clear_2 17 rfl rfl)
theorem dX1_clear_66 : decode cX1_clear 66 = .ok (.iaload, 1) := dk_46 (dk_at dksX1_clear_2 19 rfl rfl)
theorem dX1_clear_67 : decode cX1_clear 67 = .ok (.isub, 1) := dk_100 (dk_at dksX1_clear_2 20 rfl rfl)
theorem dX1_clear_68 : decode cX1_clear 68 = .ok (.iload_n 2, 1) := dk_28 (dk_at dksX1_clear_2 21 rfl rfl)
theorem dX1_clear_69 : decode cX1_clear 69 = .ok (.if_icmp .ge 6, 3) := dk_162 0 6 (dk_at dksX1_clear_3 0 rfl rfl)
theorem dX1_clear_72 : decode cX1_clear 72 = .ok (.goto 15, 3) := dk_167 0 15 (dk_at dksX1_clear_3 3 rfl rfl)
theorem dX1_clear_75 : decode cX1_clear 75 = .ok (.aload_n 0, 1) := dk_42 (dk_at dksX1_clear_3 6 rfl rfl)
theorem dX1_clear_76 : decode cX1_clear 76 = .ok (.getfield 48, 3) := dk_180 0 48 (dk_at dksX1_clear_3 7 rfl rfl)
theorem dX1_clear_79 : decode cX1_clear 79 = .ok (.iload 4, 2) := dk_21 4 (dk_at dksX1_clear_3 10 rfl rfl)
theorem dX1_clear_81 : decode cX1_clear 81 = .ok (.invokevirtual 202, 3) := dk_182 0 202 (dk_at dksX1_clear_3 12 rfl rfl)
theorem dX1_clear_84 : decode cX1_clear 84 = .ok (.iinc 3 1, 3) := dk_132 3 1 (dk_at dksX1_clear_3 15 rfl rfl)
theorem dX1_clear_87 : decode cX1_clear 87 = .ok (.iinc 4 1, 3) := dk_132 4 1 (dk_at dksX1_clear_3 18 rfl rfl)
theorem dX1_clear_90 : decode cX1_clear 90 = .ok (.goto (-66), 3) := dk_167 255 190 (dk_at dksX1_clear_3 21 rfl rfl)
theorem dX1_clear_93 : decode cX1_clear 93 = .ok (.iload_n 3, 1) := dk_29 (dk_at dksX1_clear_4 0 rfl rfl)
theorem dX1_clear_94 : decode cX1_clear 94 = .ok (.ireturn, 1) := dk_172 (dk_at dksX1_clear_4 1 rfl rfl)
abbrev cX1_minutes : ByteArray := prog_1_method_18_code
def yX1_minutes : MethodName := ⟨RX1, "minutes", "(I)I"⟩
def dkwX1_minutes_2 : List UInt8 := [167, 255, 240, 42, 180, 0, 48, 180, 0, 199, 172]
abbrev dktX1_minutes_2 : List UInt8 := dkwX1_minutes_2 ++ []
def dkwX1_minutes_1 : List UInt8 := [164, 0, 6, 16, 254, 172, 3, 61, 28, 27, 162, 0, 17, 42, 180, 0, 48, 182, 0, 89, 87, 132, 2, 1]
abbrev dktX1_minutes_1 : List UInt8 := dkwX1_minutes_1 ++ dktX1_minutes_2
def dkwX1_minutes_0 : List UInt8 := [27, 4, 16, 99, 184, 0, 3, 154, 0, 5, 2, 172, 42, 180, 0, 48, 180, 0, 199, 27, 96, 17, 3, 231]
abbrev dktX1_minutes_0 : List UInt8 := dkwX1_minutes_0 ++ dktX1_minutes_1
theorem dksX1_minutes_0 : cX1_minutes.data.toList.drop 0 = dktX1_minutes_0 := by decide +kernel
theorem dksX1_minutes_1 : cX1_minutes.data.toList.drop 24 = dktX1_minutes_1 := dk_seg dksX1_minutes_0 24 rfl rfl
theorem dksX1_minutes_2 : cX1_minutes.data.toList.drop 48 = dktX1_minutes_2 := dk_seg dksX1_minutes_1 24 rfl rfl
theorem dX1_minutes_0 : decode cX1_minutes 0 = .ok (.iload_n 1, 1) := dk_27 (dk_at dksX1_minutes_0 0 rfl rfl)
theorem dX1_minutes_1 : decode cX1_minutes 1 = .ok (.iconst 1, 1) := dk_4 (dk_at dksX1_minutes_0 1 rfl rfl)
theorem dX1_minutes_2 : decode cX1_minutes 2 = .ok (.bipush 99, 2) := dk_16 99 (dk_at dksX1_minutes_0 2 rfl rfl)
theorem dX1_minutes_4 : decode cX1_minutes 4 = .ok (.invokestatic 3, 3) := dk_184 0 3 (dk_at dksX1_minutes_0 4 rfl rfl)
theorem dX1_minutes_7 : decode cX1_minutes 7 = .ok (.ifCond .ne 5, 3) := dk_154 0 5 (dk_at dksX1_minutes_0 7 rfl rfl)
theorem dX1_minutes_10 : decode cX1_minutes 10 = .ok (.iconst (-1), 1) := dk_2 (dk_at dksX1_minutes_0 10 rfl rfl)
theorem dX1_minutes_11 : decode cX1_minutes 11 = .ok (.ireturn, 1) := dk_172 (dk_at dksX1_minutes_0 11 rfl rfl)
theorem dX1_minutes_12 : decode cX1_minutes 12 = .ok (.aload_n 0, 1) := dk_42 (dk_at dksX1_minutes_0 12 rfl rfl)
theorem dX1_minutes_13 : decode cX1_minutes 13 = .ok (.getfield 48, 3) := dk_180 0 48 (dk_at dksX1_minutes_0 13 rfl rfl)
theorem dX1_minutes_16 : decode cX1_minutes 16 = .ok (.getfield 199, 3) := dk_180 0 199 (dk_at dksX1_minutes_0 16 rfl rfl)
theorem dX1_minutes_19 : decode cX1_minutes 19 = .ok (.iload_n 1, 1) := dk_27 (dk_at dksX1_minutes_0 19 rfl rfl)
theorem dX1_minutes_20 : decode cX1_minutes 20 = .ok (.iadd, 1) := dk_96 (dk_at dksX1_minutes_0 20 rfl rfl)
theorem dX1_minutes_21 : decode cX1_minutes 21 = .ok (.sipush 999, 3) := dk_17 3 231 (dk_at dksX1_minutes_0 21 rfl rfl)
theorem dX1_minutes_24 : decode cX1_minutes 24 = .ok (.if_icmp .le 6, 3) := dk_164 0 6 (dk_at dksX1_minutes_1 0 rfl rfl)
theorem dX1_minutes_27 : decode cX1_minutes 27 = .ok (.bipush (-2), 2) := dk_16 254 (dk_at dksX1_minutes_1 3 rfl rfl)
theorem dX1_minutes_29 : decode cX1_minutes 29 = .ok (.ireturn, 1) := dk_172 (dk_at dksX1_minutes_1 5 rfl rfl)
theorem dX1_minutes_30 : decode cX1_minutes 30 = .ok (.iconst 0, 1) := dk_3 (dk_at dksX1_minutes_1 6 rfl rfl)
theorem dX1_minutes_31 : decode cX1_minutes 31 = .ok (.istore_n 2, 1) := dk_61 (dk_at dksX1_minutes_1 7 rfl rfl)
theorem dX1_minutes_32 : decode cX1_minutes 32 = .ok (.iload_n 2, 1) := dk_28 (dk_at dksX1_minutes_1 8 rfl rfl)
theorem dX1_minutes_33 : decode cX1_minutes 33 = .ok (.iload_n 1, 1) := dk_27 (dk_at dksX1_minutes_1 9 rfl rfl)
theorem dX1_minutes_34 : decode cX1_minutes 34 = .ok (.if_icmp .ge 17, 3) := dk_162 0 17 (dk_at dksX1_minutes_1 10 rfl rfl)
theorem dX1_minutes_37 : decode cX1_minutes 37 = .ok (.aload_n 0, 1) := dk_42 (dk_at dksX1_minutes_1 13 rfl rfl)
theorem dX1_minutes_38 : decode cX1_minutes 38 = .ok (.getfield 48, 3) := dk_180 0 48 (dk_at dksX1_minutes_1 14 rfl rfl)
theorem dX1_minutes_41 : decode cX1_minutes 41 = .ok (.invokevirtual 89, 3) := dk_182 0 89 (dk_at dksX1_minutes_1 17 rfl rfl)
theorem dX1_minutes_44 : decode cX1_minutes 44 = .ok (.pop, 1) := dk_87 (dk_at dksX1_minutes_1 20 rfl rfl)
theorem dX1_minutes_45 : decode cX1_minutes 45 = .ok (.iinc 2 1, 3) := dk_132 2 1 (dk_at dksX1_minutes_1 21 rfl rfl)
theorem dX1_minutes_48 : decode cX1_minutes 48 = .ok (.goto (-16), 3) := dk_167 255 240 (dk_at dksX1_minutes_2 0 rfl rfl)
theorem dX1_minutes_51 : decode cX1_minutes 51 = .ok (.aload_n 0, 1) := dk_42 (dk_at dksX1_minutes_2 3 rfl rfl)
theorem dX1_minutes_52 : decode cX1_minutes 52 = .ok (.getfield 48, 3) := dk_180 0 48 (dk_at dksX1_minutes_2 4 rfl rfl)
theorem dX1_minutes_55 : decode cX1_minutes 55 = .ok (.getfield 199, 3) := dk_180 0 199 (dk_at dksX1_minutes_2 7 rfl rfl)
theorem dX1_minutes_58 : decode cX1_minutes 58 = .ok (.ireturn, 1) := dk_172 (dk_at dksX1_minutes_2 10 rfl rfl)
abbrev cX1_like : ByteArray := prog_1_method_19_code
def yX1_like : MethodName := ⟨RX1, "like", "(II)I"⟩
def dkwX1_like_1 : List UInt8 := [180, 0, 48, 27, 28, 182, 0, 205, 167, 0, 4, 2, 172]
abbrev dktX1_like_1 : List UInt8 := dkwX1_like_1 ++ []
def dkwX1_like_0 : List UInt8 := [42, 180, 0, 48, 27, 182, 0, 69, 153, 0, 26, 42, 180, 0, 48, 28, 182, 0, 69, 153, 0, 15, 42]
abbrev dktX1_like_0 : List UInt8 := dkwX1_like_0 ++ dktX1_like_1
theorem dksX1_like_0 : cX1_like.data.toList.drop 0 = dktX1_like_0 := by decide +kernel
theorem dksX1_like_1 : cX1_like.data.toList.drop 23 = dktX1_like_1 := dk_seg dksX1_like_0 23 rfl rfl
theorem dX1_like_0 : decode cX1_like 0 = .ok (.aload_n 0, 1) := dk_42 (dk_at dksX1_like_0 0 rfl rfl)
theorem dX1_like_1 : decode cX1_like 1 = .ok (.getfield 48, 3) := dk_180 0 48 (dk_at dksX1_like_0 1 rfl rfl)
theorem dX1_like_4 : decode cX1_like 4 = .ok (.iload_n 1, 1) := dk_27 (dk_at dksX1_like_0 4 rfl rfl)
theorem dX1_like_5 : decode cX1_like 5 = .ok (.invokevirtual 69, 3) := dk_182 0 69 (dk_at dksX1_like_0 5 rfl rfl)
theorem dX1_like_8 : decode cX1_like 8 = .ok (.ifCond .eq 26, 3) := dk_153 0 26 (dk_at dksX1_like_0 8 rfl rfl)
theorem dX1_like_11 : decode cX1_like 11 = .ok (.aload_n 0, 1) := dk_42 (dk_at dksX1_like_0 11 rfl rfl)
theorem dX1_like_12 : decode cX1_like 12 = .ok (.getfield 48, 3) := dk_180 0 48 (dk_at dksX1_like_0 12 rfl rfl)
theorem dX1_like_15 : decode cX1_like 15 = .ok (.iload_n 2, 1) := dk_28 (dk_at dksX1_like_0 15 rfl rfl)
theorem dX1_like_16 : decode cX1_like 16 = .ok (.invokevirtual 69, 3) := dk_182 0 69 (dk_at dksX1_like_0 16 rfl rfl)
theorem dX1_like_19 : decode cX1_like 19 = .ok (.ifCond .eq 15, 3) := dk_153 0 15 (dk_at dksX1_like_0 19 rfl rfl)
theorem dX1_like_22 : decode cX1_like 22 = .ok (.aload_n 0, 1) := dk_42 (dk_at dksX1_like_0 22 rfl rfl)
theorem dX1_like_23 : decode cX1_like 23 = .ok (.getfield 48, 3) := dk_180 0 48 (dk_at dksX1_like_1 0 rfl rfl)
theorem dX1_like_26 : decode cX1_like 26 = .ok (.iload_n 1, 1) := dk_27 (dk_at dksX1_like_1 3 rfl rfl)
theorem dX1_like_27 : decode cX1_like 27 = .ok (.iload_n 2, 1) := dk_28 (dk_at dksX1_like_1 4 rfl rfl)
theorem dX1_like_28 : decode cX1_like 28 = .ok (.invokevirtual 205, 3) := dk_182 0 205 (dk_at dksX1_like_1 5 rfl rfl)
theorem dX1_like_31 : decode cX1_like 31 = .ok (.goto 4, 3) := dk_167 0 4 (dk_at dksX1_like_1 8 rfl rfl)
theorem dX1_like_34 : decode cX1_like 34 = .ok (.iconst (-1), 1) := dk_2 (dk_at dksX1_like_1 11 rfl rfl)
theorem dX1_like_35 : decode cX1_like 35 = .ok (.ireturn, 1) := dk_172 (dk_at dksX1_like_1 12 rfl rfl)
abbrev cX1_mine : ByteArray := prog_1_method_20_code
def yX1_mine : MethodName := ⟨RX1, "mine", "(I)I"⟩
def dkwX1_mine_0 : List UInt8 := [42, 180, 0, 48, 27, 182, 0, 66, 153, 0, 14, 42, 180, 0, 48, 27, 182, 0, 209, 167, 0, 4, 2, 172]
abbrev dktX1_mine_0 : List UInt8 := dkwX1_mine_0 ++ []
theorem dksX1_mine_0 : cX1_mine.data.toList.drop 0 = dktX1_mine_0 := by decide +kernel
theorem dX1_mine_0 : decode cX1_mine 0 = .ok (.aload_n 0, 1) := dk_42 (dk_at dksX1_mine_0 0 rfl rfl)
theorem dX1_mine_1 : decode cX1_mine 1 = .ok (.getfield 48, 3) := dk_180 0 48 (dk_at dksX1_mine_0 1 rfl rfl)
theorem dX1_mine_4 : decode cX1_mine 4 = .ok (.iload_n 1, 1) := dk_27 (dk_at dksX1_mine_0 4 rfl rfl)
theorem dX1_mine_5 : decode cX1_mine 5 = .ok (.invokevirtual 66, 3) := dk_182 0 66 (dk_at dksX1_mine_0 5 rfl rfl)
theorem dX1_mine_8 : decode cX1_mine 8 = .ok (.ifCond .eq 14, 3) := dk_153 0 14 (dk_at dksX1_mine_0 8 rfl rfl)
theorem dX1_mine_11 : decode cX1_mine 11 = .ok (.aload_n 0, 1) := dk_42 (dk_at dksX1_mine_0 11 rfl rfl)
theorem dX1_mine_12 : decode cX1_mine 12 = .ok (.getfield 48, 3) := dk_180 0 48 (dk_at dksX1_mine_0 12 rfl rfl)
theorem dX1_mine_15 : decode cX1_mine 15 = .ok (.iload_n 1, 1) := dk_27 (dk_at dksX1_mine_0 15 rfl rfl)
theorem dX1_mine_16 : decode cX1_mine 16 = .ok (.invokevirtual 209, 3) := dk_182 0 209 (dk_at dksX1_mine_0 16 rfl rfl)
theorem dX1_mine_19 : decode cX1_mine 19 = .ok (.goto 4, 3) := dk_167 0 4 (dk_at dksX1_mine_0 19 rfl rfl)
theorem dX1_mine_22 : decode cX1_mine 22 = .ok (.iconst (-1), 1) := dk_2 (dk_at dksX1_mine_0 22 rfl rfl)
theorem dX1_mine_23 : decode cX1_mine 23 = .ok (.ireturn, 1) := dk_172 (dk_at dksX1_mine_0 23 rfl rfl)
abbrev cX1_likely : ByteArray := prog_1_method_22_code
def yX1_likely : MethodName := ⟨RX1, "likely", "(III)I"⟩
def dkwX1_likely_7 : List UInt8 := [21, 7, 21, 6, 21, 7, 184, 0, 212, 108, 172]
abbrev dktX1_likely_7 : List UInt8 := dkwX1_likely_7 ++ []
def dkwX1_likely_6 : List UInt8 := [54, 7, 132, 8, 1, 167, 255, 206, 21, 7, 154, 0, 5, 29, 172, 29, 154, 0, 8, 21, 6, 167, 0, 5]
abbrev dktX1_likely_6 : List UInt8 := dkwX1_likely_6 ++ dktX1_likely_7
def dkwX1_likely_5 : List UInt8 := [21, 8, 46, 21, 4, 160, 0, 17, 42, 180, 0, 48, 21, 5, 21, 8, 182, 0, 205, 167, 0, 4, 3, 96]
abbrev dktX1_likely_5 : List UInt8 := dkwX1_likely_5 ++ dktX1_likely_6
def dkwX1_likely_4 : List UInt8 := [54, 8, 21, 8, 42, 180, 0, 48, 180, 0, 186, 162, 0, 44, 21, 7, 42, 180, 0, 48, 180, 0, 154]
abbrev dktX1_likely_4 : List UInt8 := dkwX1_likely_4 ++ dktX1_likely_5
def dkwX1_likely_3 : List UInt8 := [21, 4, 159, 0, 6, 16, 253, 172, 42, 180, 0, 48, 21, 5, 28, 182, 0, 205, 54, 6, 3, 54, 7, 3]
abbrev dktX1_likely_3 : List UInt8 := dkwX1_likely_3 ++ dktX1_likely_4
def dkwX1_likely_2 : List UInt8 := [180, 0, 180, 27, 46, 54, 5, 21, 5, 16, 252, 159, 0, 17, 42, 180, 0, 48, 180, 0, 154, 28, 46]
abbrev dktX1_likely_2 : List UInt8 := dkwX1_likely_2 ++ dktX1_likely_3
def dkwX1_likely_1 : List UInt8 := [4, 184, 0, 3, 154, 0, 5, 2, 172, 42, 180, 0, 48, 180, 0, 179, 27, 46, 54, 4, 42, 180, 0, 48]
abbrev dktX1_likely_1 : List UInt8 := dkwX1_likely_1 ++ dktX1_likely_2
def dkwX1_likely_0 : List UInt8 := [42, 180, 0, 48, 27, 182, 0, 66, 153, 0, 23, 42, 180, 0, 48, 28, 182, 0, 69, 153, 0, 12, 29, 3]
abbrev dktX1_likely_0 : List UInt8 := dkwX1_likely_0 ++ dktX1_likely_1
theorem dksX1_likely_0 : cX1_likely.data.toList.drop 0 = dktX1_likely_0 := by decide +kernel
theorem dksX1_likely_1 : cX1_likely.data.toList.drop 24 = dktX1_likely_1 := dk_seg dksX1_likely_0 24 rfl rfl
theorem dksX1_likely_2 : cX1_likely.data.toList.drop 48 = dktX1_likely_2 := dk_seg dksX1_likely_1 24 rfl rfl
theorem dksX1_likely_3 : cX1_likely.data.toList.drop 71 = dktX1_likely_3 := dk_seg dksX1_likely_2 23 rfl rfl
theorem dksX1_likely_4 : cX1_likely.data.toList.drop 95 = dktX1_likely_4 := dk_seg dksX1_likely_3 24 rfl rfl
theorem dksX1_likely_5 : cX1_likely.data.toList.drop 118 = dktX1_likely_5 := dk_seg dksX1_likely_4 23 rfl rfl
theorem dksX1_likely_6 : cX1_likely.data.toList.drop 142 = dktX1_likely_6 := dk_seg dksX1_likely_5 24 rfl rfl
theorem dksX1_likely_7 : cX1_likely.data.toList.drop 166 = dktX1_likely_7 := dk_seg dksX1_likely_6 24 rfl rfl
theorem dX1_likely_0 : decode cX1_likely 0 = .ok (.aload_n 0, 1) := dk_42 (dk_at dksX1_likely_0 0 rfl rfl)
theorem dX1_likely_1 : decode cX1_likely 1 = .ok (.getfield 48, 3) := dk_180 0 48 (dk_at dksX1_likely_0 1 rfl rfl)
theorem dX1_likely_4 : decode cX1_likely 4 = .ok (.iload_n 1, 1) := dk_27 (dk_at dksX1_likely_0 4 rfl rfl)
theorem dX1_likely_5 : decode cX1_likely 5 = .ok (.invokevirtual 66, 3) := dk_182 0 66 (dk_at dksX1_likely_0 5 rfl rfl)
theorem dX1_likely_8 : decode cX1_likely 8 = .ok (.ifCond .eq 23, 3) := dk_153 0 23 (dk_at dksX1_likely_0 8 rfl rfl)
theorem dX1_likely_11 : decode cX1_likely 11 = .ok (.aload_n 0, 1) := dk_42 (dk_at dksX1_likely_0 11 rfl rfl)
theorem dX1_likely_12 : decode cX1_likely 12 = .ok (.getfield 48, 3) := dk_180 0 48 (dk_at dksX1_likely_0 12 rfl rfl)
theorem dX1_likely_15 : decode cX1_likely 15 = .ok (.iload_n 2, 1) := dk_28 (dk_at dksX1_likely_0 15 rfl rfl)
theorem dX1_likely_16 : decode cX1_likely 16 = .ok (.invokevirtual 69, 3) := dk_182 0 69 (dk_at dksX1_likely_0 16 rfl rfl)
theorem dX1_likely_19 : decode cX1_likely 19 = .ok (.ifCond .eq 12, 3) := dk_153 0 12 (dk_at dksX1_likely_0 19 rfl rfl)
theorem dX1_likely_22 : decode cX1_likely 22 = .ok (.iload_n 3, 1) := dk_29 (dk_at dksX1_likely_0 22 rfl rfl)
theorem dX1_likely_23 : decode cX1_likely 23 = .ok (.iconst 0, 1) := dk_3 (dk_at dksX1_likely_0 23 rfl rfl)
theorem dX1_likely_24 : decode cX1_likely 24 = .ok (.iconst 1, 1) := dk_4 (dk_at dksX1_likely_1 0 rfl rfl)
theorem dX1_likely_25 : decode cX1_likely 25 = .ok (.invokestatic 3, 3) := dk_184 0 3 (dk_at dksX1_likely_1 1 rfl rfl)
theorem dX1_likely_28 : decode cX1_likely 28 = .ok (.ifCond .ne 5, 3) := dk_154 0 5 (dk_at dksX1_likely_1 4 rfl rfl)
theorem dX1_likely_31 : decode cX1_likely 31 = .ok (.iconst (-1), 1) := dk_2 (dk_at dksX1_likely_1 7 rfl rfl)
theorem dX1_likely_32 : decode cX1_likely 32 = .ok (.ireturn, 1) := dk_172 (dk_at dksX1_likely_1 8 rfl rfl)
theorem dX1_likely_33 : decode cX1_likely 33 = .ok (.aload_n 0, 1) := dk_42 (dk_at dksX1_likely_1 9 rfl rfl)
theorem dX1_likely_34 : decode cX1_likely 34 = .ok (.getfield 48, 3) := dk_180 0 48 (dk_at dksX1_likely_1 10 rfl rfl)
theorem dX1_likely_37 : decode cX1_likely 37 = .ok (.getfield 179, 3) := dk_180 0 179 (dk_at dksX1_likely_1 13 rfl rfl)
theorem dX1_likely_40 : decode cX1_likely 40 = .ok (.iload_n 1, 1) := dk_27 (dk_at dksX1_likely_1 16 rfl rfl)
theorem dX1_likely_41 : decode cX1_likely 41 = .ok (.iaload, 1) := dk_46 (dk_at dksX1_likely_1 17 rfl rfl)
theorem dX1_likely_42 : decode cX1_likely 42 = .ok (.istore 4, 2) := dk_54 4 (dk_at dksX1_likely_1 18 rfl rfl)
theorem dX1_likely_44 : decode cX1_likely 44 = .ok (.aload_n 0, 1) := dk_42 (dk_at dksX1_likely_1 20 rfl rfl)
theorem dX1_likely_45 : decode cX1_likely 45 = .ok (.getfield 48, 3) := dk_180 0 48 (dk_at dksX1_likely_1 21 rfl rfl)
theorem dX1_likely_48 : decode cX1_likely 48 = .ok (.getfield 180, 3) := dk_180 0 180 (dk_at dksX1_likely_2 0 rfl rfl)
theorem dX1_likely_51 : decode cX1_likely 51 = .ok (.iload_n 1, 1) := dk_27 (dk_at dksX1_likely_2 3 rfl rfl)
theorem dX1_likely_52 : decode cX1_likely 52 = .ok (.iaload, 1) := dk_46 (dk_at dksX1_likely_2 4 rfl rfl)
theorem dX1_likely_53 : decode cX1_likely 53 = .ok (.istore 5, 2) := dk_54 5 (dk_at dksX1_likely_2 5 rfl rfl)
theorem dX1_likely_55 : decode cX1_likely 55 = .ok (.iload 5, 2) := dk_21 5 (dk_at dksX1_likely_2 7 rfl rfl)
theorem dX1_likely_57 : decode cX1_likely 57 = .ok (.bipush (-4), 2) := dk_16 252 (dk_at dksX1_likely_2 9 rfl rfl)
theorem dX1_likely_59 : decode cX1_likely 59 = .ok (.if_icmp .eq 17, 3) := dk_159 0 17 (dk_at dksX1_likely_2 11 rfl rfl)
theorem dX1_likely_62 : decode cX1_likely 62 = .ok (.aload_n 0, 1) := dk_42 (dk_at dksX1_likely_2 14 rfl rfl)
theorem dX1_likely_63 : decode cX1_likely 63 = .ok (.getfield 48, 3) := dk_180 0 48 (dk_at dksX1_likely_2 15 rfl rfl)
theorem dX1_likely_66 : decode cX1_likely 66 = .ok (.getfield 154, 3) := dk_180 0 154 (dk_at dksX1_likely_2 18 rfl rfl)
theorem dX1_likely_69 : decode cX1_likely 69 = .ok (.iload_n 2, 1) := dk_28 (dk_at dksX1_likely_2 21 rfl rfl)
theorem dX1_likely_70 : decode cX1_likely 70 = .ok (.iaload, 1) := dk_46 (dk_at dksX1_likely_2 22 rfl rfl)
theorem dX1_likely_71 : decode cX1_likely 71 = .ok (.iload 4, 2) := dk_21 4 (dk_at dksX1_likely_3 0 rfl rfl)
theorem dX1_likely_73 : decode cX1_likely 73 = .ok (.if_icmp .eq 6, 3) := dk_159 0 6 (dk_at dksX1_likely_3 2 rfl rfl)
theorem dX1_likely_76 : decode cX1_likely 76 = .ok (.bipush (-3), 2) := dk_16 253 (dk_at dksX1_likely_3 5 rfl rfl)
theorem dX1_likely_78 : decode cX1_likely 78 = .ok (.ireturn, 1) := dk_172 (dk_at dksX1_likely_3 7 rfl rfl)
theorem dX1_likely_79 : decode cX1_likely 79 = .ok (.aload_n 0, 1) := dk_42 (dk_at dksX1_likely_3 8 rfl rfl)
theorem dX1_likely_80 : decode cX1_likely 80 = .ok (.getfield 48, 3) := dk_180 0 48 (dk_at dksX1_likely_3 9 rfl rfl)
theorem dX1_likely_83 : decode cX1_likely 83 = .ok (.iload 5, 2) := dk_21 5 (dk_at dksX1_likely_3 12 rfl rfl)
theorem dX1_likely_85 : decode cX1_likely 85 = .ok (.iload_n 2, 1) := dk_28 (dk_at dksX1_likely_3 14 rfl rfl)
theorem dX1_likely_86 : decode cX1_likely 86 = .ok (.invokevirtual 205, 3) := dk_182 0 205 (dk_at dksX1_likely_3 15 rfl rfl)
theorem dX1_likely_89 : decode cX1_likely 89 = .ok (.istore 6, 2) := dk_54 6 (dk_at dksX1_likely_3 18 rfl rfl)
theorem dX1_likely_91 : decode cX1_likely 91 = .ok (.iconst 0, 1) := dk_3 (dk_at dksX1_likely_3 20 rfl rfl)
theorem dX1_likely_92 : decode cX1_likely 92 = .ok (.istore 7, 2) := dk_54 7 (dk_at dksX1_likely_3 21 rfl rfl)
theorem dX1_likely_94 : decode cX1_likely 94 = .ok (.iconst 0, 1) := dk_3 (dk_at dksX1_likely_3 23 rfl rfl)
theorem dX1_likely_95 : decode cX1_likely 95 = .ok (.istore 8, 2) := dk_54 8 (dk_at dksX1_likely_4 0 rfl rfl)
theorem dX1_likely_97 : decode cX1_likely 97 = .ok (.iload 8, 2) := dk_21 8 (dk_at dksX1_likely_4 2 rfl rfl)
theorem dX1_likely_99 : decode cX1_likely 99 = .ok (.aload_n 0, 1) := dk_42 (dk_at dksX1_likely_4 4 rfl rfl)
theorem dX1_likely_100 : decode cX1_likely 100 = .ok (.getfield 48, 3) := dk_180 0 48 (dk_at dksX1_likely_4 5 rfl rfl)
theorem dX1_likely_103 : decode cX1_likely 103 = .ok (.getfield 186, 3) := dk_180 0 186 (dk_at dksX1_likely_4 8 rfl rfl)
theorem dX1_likely_106 : decode cX1_likely 106 = .ok (.if_icmp .ge 44, 3) := dk_162 0 44 (dk_at dksX1_likely_4 11 rfl rfl)
theorem dX1_likely_109 : decode cX1_likely 109 = .ok (.iload 7, 2) := dk_21 7 (dk_at dksX1_likely_4 14 rfl rfl)
theorem dX1_likely_111 : decode cX1_likely 111 = .ok (.aload_n 0, 1) := dk_42 (dk_at dksX1_likely_4 16 rfl rfl)
theorem dX1_likely_112 : decode cX1_likely 112 = .ok (.getfield 48, 3) := dk_180 0 48 (dk_at dksX1_likely_4 17 rfl rfl)
theorem dX1_likely_115 : decode cX1_likely 115 = .ok (.getfield 154, 3) := dk_180 0 154 (dk_at dksX1_likely_4 20 rfl rfl)
theorem dX1_likely_118 : decode cX1_likely 118 = .ok (.iload 8, 2) := dk_21 8 (dk_at dksX1_likely_5 0 rfl rfl)
theorem dX1_likely_120 : decode cX1_likely 120 = .ok (.iaload, 1) := dk_46 (dk_at dksX1_likely_5 2 rfl rfl)
theorem dX1_likely_121 : decode cX1_likely 121 = .ok (.iload 4, 2) := dk_21 4 (dk_at dksX1_likely_5 3 rfl rfl)
theorem dX1_likely_123 : decode cX1_likely 123 = .ok (.if_icmp .ne 17, 3) := dk_160 0 17 (dk_at dksX1_likely_5 5 rfl rfl)
theorem dX1_likely_126 : decode cX1_likely 126 = .ok (.aload_n 0, 1) := dk_42 (dk_at dksX1_likely_5 8 rfl rfl)
theorem dX1_likely_127 : decode cX1_likely 127 = .ok (.getfield 48, 3) := dk_180 0 48 (dk_at dksX1_likely_5 9 rfl rfl)
theorem dX1_likely_130 : decode cX1_likely 130 = .ok (.iload 5, 2) := dk_21 5 (dk_at dksX1_likely_5 12 rfl rfl)
theorem dX1_likely_132 : decode cX1_likely 132 = .ok (.iload 8, 2) := dk_21 8 (dk_at dksX1_likely_5 14 rfl rfl)
theorem dX1_likely_134 : decode cX1_likely 134 = .ok (.invokevirtual 205, 3) := dk_182 0 205 (dk_at dksX1_likely_5 16 rfl rfl)
theorem dX1_likely_137 : decode cX1_likely 137 = .ok (.goto 4, 3) := dk_167 0 4 (dk_at dksX1_likely_5 19 rfl rfl)
theorem dX1_likely_140 : decode cX1_likely 140 = .ok (.iconst 0, 1) := dk_3 (dk_at dksX1_likely_5 22 rfl rfl)
theorem dX1_likely_141 : decode cX1_likely 141 = .ok (.iadd, 1) := dk_96 (dk_at dksX1_likely_5 23 rfl rfl)
theorem dX1_likely_142 : decode cX1_likely 142 = .ok (.istore 7, 2) := dk_54 7 (dk_at dksX1_likely_6 0 rfl rfl)
theorem dX1_likely_144 : decode cX1_likely 144 = .ok (.iinc 8 1, 3) := dk_132 8 1 (dk_at dksX1_likely_6 2 rfl rfl)
theorem dX1_likely_147 : decode cX1_likely 147 = .ok (.goto (-50), 3) := dk_167 255 206 (dk_at dksX1_likely_6 5 rfl rfl)
theorem dX1_likely_150 : decode cX1_likely 150 = .ok (.iload 7, 2) := dk_21 7 (dk_at dksX1_likely_6 8 rfl rfl)
theorem dX1_likely_152 : decode cX1_likely 152 = .ok (.ifCond .ne 5, 3) := dk_154 0 5 (dk_at dksX1_likely_6 10 rfl rfl)
theorem dX1_likely_155 : decode cX1_likely 155 = .ok (.iload_n 3, 1) := dk_29 (dk_at dksX1_likely_6 13 rfl rfl)
theorem dX1_likely_156 : decode cX1_likely 156 = .ok (.ireturn, 1) := dk_172 (dk_at dksX1_likely_6 14 rfl rfl)
theorem dX1_likely_157 : decode cX1_likely 157 = .ok (.iload_n 3, 1) := dk_29 (dk_at dksX1_likely_6 15 rfl rfl)
theorem dX1_likely_158 : decode cX1_likely 158 = .ok (.ifCond .ne 8, 3) := dk_154 0 8 (dk_at dksX1_likely_6 16 rfl rfl)
theorem dX1_likely_161 : decode cX1_likely 161 = .ok (.iload 6, 2) := dk_21 6 (dk_at dksX1_likely_6 19 rfl rfl)
theorem dX1_likely_163 : decode cX1_likely 163 = .ok (.goto 5, 3) := dk_167 0 5 (dk_at dksX1_likely_6 21 rfl rfl)
theorem dX1_likely_166 : decode cX1_likely 166 = .ok (.iload 7, 2) := dk_21 7 (dk_at dksX1_likely_7 0 rfl rfl)
theorem dX1_likely_168 : decode cX1_likely 168 = .ok (.iload 6, 2) := dk_21 6 (dk_at dksX1_likely_7 2 rfl rfl)
theorem dX1_likely_170 : decode cX1_likely 170 = .ok (.iload 7, 2) := dk_21 7 (dk_at dksX1_likely_7 4 rfl rfl)
theorem dX1_likely_172 : decode cX1_likely 172 = .ok (.invokestatic 212, 3) := dk_184 0 212 (dk_at dksX1_likely_7 6 rfl rfl)
theorem dX1_likely_175 : decode cX1_likely 175 = .ok (.idiv, 1) := dk_108 (dk_at dksX1_likely_7 9 rfl rfl)
theorem dX1_likely_176 : decode cX1_likely 176 = .ok (.ireturn, 1) := dk_172 (dk_at dksX1_likely_7 10 rfl rfl)
abbrev cX1_divisor : ByteArray := prog_1_method_21_code
def yX1_divisor : MethodName := ⟨RX1, "divisor", "(II)I"⟩
def dkwX1_divisor_0 : List UInt8 := [26, 61, 27, 62, 29, 153, 0, 16, 28, 29, 112, 54, 4, 29, 61, 21, 4, 62, 167, 255, 242, 28, 172]
abbrev dktX1_divisor_0 : List UInt8 := dkwX1_divisor_0 ++ []
theorem dksX1_divisor_0 : cX1_divisor.data.toList.drop 0 = dktX1_divisor_0 := by decide +kernel
theorem dX1_divisor_0 : decode cX1_divisor 0 = .ok (.iload_n 0, 1) := dk_26 (dk_at dksX1_divisor_0 0 rfl rfl)
theorem dX1_divisor_1 : decode cX1_divisor 1 = .ok (.istore_n 2, 1) := dk_61 (dk_at dksX1_divisor_0 1 rfl rfl)
theorem dX1_divisor_2 : decode cX1_divisor 2 = .ok (.iload_n 1, 1) := dk_27 (dk_at dksX1_divisor_0 2 rfl rfl)
theorem dX1_divisor_3 : decode cX1_divisor 3 = .ok (.istore_n 3, 1) := dk_62 (dk_at dksX1_divisor_0 3 rfl rfl)
theorem dX1_divisor_4 : decode cX1_divisor 4 = .ok (.iload_n 3, 1) := dk_29 (dk_at dksX1_divisor_0 4 rfl rfl)
theorem dX1_divisor_5 : decode cX1_divisor 5 = .ok (.ifCond .eq 16, 3) := dk_153 0 16 (dk_at dksX1_divisor_0 5 rfl rfl)
theorem dX1_divisor_8 : decode cX1_divisor 8 = .ok (.iload_n 2, 1) := dk_28 (dk_at dksX1_divisor_0 8 rfl rfl)
theorem dX1_divisor_9 : decode cX1_divisor 9 = .ok (.iload_n 3, 1) := dk_29 (dk_at dksX1_divisor_0 9 rfl rfl)
theorem dX1_divisor_10 : decode cX1_divisor 10 = .ok (.irem, 1) := dk_112 (dk_at dksX1_divisor_0 10 rfl rfl)
theorem dX1_divisor_11 : decode cX1_divisor 11 = .ok (.istore 4, 2) := dk_54 4 (dk_at dksX1_divisor_0 11 rfl rfl)
theorem dX1_divisor_13 : decode cX1_divisor 13 = .ok (.iload_n 3, 1) := dk_29 (dk_at dksX1_divisor_0 13 rfl rfl)
theorem dX1_divisor_14 : decode cX1_divisor 14 = .ok (.istore_n 2, 1) := dk_61 (dk_at dksX1_divisor_0 14 rfl rfl)
theorem dX1_divisor_15 : decode cX1_divisor 15 = .ok (.iload 4, 2) := dk_21 4 (dk_at dksX1_divisor_0 15 rfl rfl)
theorem dX1_divisor_17 : decode cX1_divisor 17 = .ok (.istore_n 3, 1) := dk_62 (dk_at dksX1_divisor_0 17 rfl rfl)
theorem dX1_divisor_18 : decode cX1_divisor 18 = .ok (.goto (-14), 3) := dk_167 255 242 (dk_at dksX1_divisor_0 18 rfl rfl)
theorem dX1_divisor_21 : decode cX1_divisor 21 = .ok (.iload_n 2, 1) := dk_28 (dk_at dksX1_divisor_0 21 rfl rfl)
theorem dX1_divisor_22 : decode cX1_divisor 22 = .ok (.ireturn, 1) := dk_172 (dk_at dksX1_divisor_0 22 rfl rfl)
abbrev cX1_idle : ByteArray := prog_1_method_24_code
def yX1_idle : MethodName := ⟨RX1, "idle", "(I)I"⟩
def dkwX1_idle_2 : List UInt8 := [167, 0, 4, 3, 96, 61, 132, 3, 1, 167, 255, 213, 28, 172]
abbrev dktX1_idle_2 : List UInt8 := dkwX1_idle_2 ++ []
def dkwX1_idle_1 : List UInt8 := [28, 42, 180, 0, 48, 180, 0, 154, 29, 46, 27, 160, 0, 15, 42, 29, 182, 0, 218, 154, 0, 7, 4]
abbrev dktX1_idle_1 : List UInt8 := dkwX1_idle_1 ++ dktX1_idle_2
def dkwX1_idle_0 : List UInt8 := [27, 184, 0, 44, 154, 0, 5, 2, 172, 3, 61, 3, 62, 29, 42, 180, 0, 48, 180, 0, 186, 162, 0, 38]
abbrev dktX1_idle_0 : List UInt8 := dkwX1_idle_0 ++ dktX1_idle_1
theorem dksX1_idle_0 : cX1_idle.data.toList.drop 0 = dktX1_idle_0 := by decide +kernel
theorem dksX1_idle_1 : cX1_idle.data.toList.drop 24 = dktX1_idle_1 := dk_seg dksX1_idle_0 24 rfl rfl
theorem dksX1_idle_2 : cX1_idle.data.toList.drop 47 = dktX1_idle_2 := dk_seg dksX1_idle_1 23 rfl rfl
theorem dX1_idle_0 : decode cX1_idle 0 = .ok (.iload_n 1, 1) := dk_27 (dk_at dksX1_idle_0 0 rfl rfl)
theorem dX1_idle_1 : decode cX1_idle 1 = .ok (.invokestatic 44, 3) := dk_184 0 44 (dk_at dksX1_idle_0 1 rfl rfl)
theorem dX1_idle_4 : decode cX1_idle 4 = .ok (.ifCond .ne 5, 3) := dk_154 0 5 (dk_at dksX1_idle_0 4 rfl rfl)
theorem dX1_idle_7 : decode cX1_idle 7 = .ok (.iconst (-1), 1) := dk_2 (dk_at dksX1_idle_0 7 rfl rfl)
theorem dX1_idle_8 : decode cX1_idle 8 = .ok (.ireturn, 1) := dk_172 (dk_at dksX1_idle_0 8 rfl rfl)
theorem dX1_idle_9 : decode cX1_idle 9 = .ok (.iconst 0, 1) := dk_3 (dk_at dksX1_idle_0 9 rfl rfl)
theorem dX1_idle_10 : decode cX1_idle 10 = .ok (.istore_n 2, 1) := dk_61 (dk_at dksX1_idle_0 10 rfl rfl)
theorem dX1_idle_11 : decode cX1_idle 11 = .ok (.iconst 0, 1) := dk_3 (dk_at dksX1_idle_0 11 rfl rfl)
theorem dX1_idle_12 : decode cX1_idle 12 = .ok (.istore_n 3, 1) := dk_62 (dk_at dksX1_idle_0 12 rfl rfl)
theorem dX1_idle_13 : decode cX1_idle 13 = .ok (.iload_n 3, 1) := dk_29 (dk_at dksX1_idle_0 13 rfl rfl)
theorem dX1_idle_14 : decode cX1_idle 14 = .ok (.aload_n 0, 1) := dk_42 (dk_at dksX1_idle_0 14 rfl rfl)
theorem dX1_idle_15 : decode cX1_idle 15 = .ok (.getfield 48, 3) := dk_180 0 48 (dk_at dksX1_idle_0 15 rfl rfl)
theorem dX1_idle_18 : decode cX1_idle 18 = .ok (.getfield 186, 3) := dk_180 0 186 (dk_at dksX1_idle_0 18 rfl rfl)
theorem dX1_idle_21 : decode cX1_idle 21 = .ok (.if_icmp .ge 38, 3) := dk_162 0 38 (dk_at dksX1_idle_0 21 rfl rfl)
theorem dX1_idle_24 : decode cX1_idle 24 = .ok (.iload_n 2, 1) := dk_28 (dk_at dksX1_idle_1 0 rfl rfl)
theorem dX1_idle_25 : decode cX1_idle 25 = .ok (.aload_n 0, 1) := dk_42 (dk_at dksX1_idle_1 1 rfl rfl)
theorem dX1_idle_26 : decode cX1_idle 26 = .ok (.getfield 48, 3) := dk_180 0 48 (dk_at dksX1_idle_1 2 rfl rfl)
theorem dX1_idle_29 : decode cX1_idle 29 = .ok (.getfield 154, 3) := dk_180 0 154 (dk_at dksX1_idle_1 5 rfl rfl)
theorem dX1_idle_32 : decode cX1_idle 32 = .ok (.iload_n 3, 1) := dk_29 (dk_at dksX1_idle_1 8 rfl rfl)
theorem dX1_idle_33 : decode cX1_idle 33 = .ok (.iaload, 1) := dk_46 (dk_at dksX1_idle_1 9 rfl rfl)
theorem dX1_idle_34 : decode cX1_idle 34 = .ok (.iload_n 1, 1) := dk_27 (dk_at dksX1_idle_1 10 rfl rfl)
theorem dX1_idle_35 : decode cX1_idle 35 = .ok (.if_icmp .ne 15, 3) := dk_160 0 15 (dk_at dksX1_idle_1 11 rfl rfl)
theorem dX1_idle_38 : decode cX1_idle 38 = .ok (.aload_n 0, 1) := dk_42 (dk_at dksX1_idle_1 14 rfl rfl)
theorem dX1_idle_39 : decode cX1_idle 39 = .ok (.iload_n 3, 1) := dk_29 (dk_at dksX1_idle_1 15 rfl rfl)
theorem dX1_idle_40 : decode cX1_idle 40 = .ok (.invokevirtual 218, 3) := dk_182 0 218 (dk_at dksX1_idle_1 16 rfl rfl)
theorem dX1_idle_43 : decode cX1_idle 43 = .ok (.ifCond .ne 7, 3) := dk_154 0 7 (dk_at dksX1_idle_1 19 rfl rfl)
theorem dX1_idle_46 : decode cX1_idle 46 = .ok (.iconst 1, 1) := dk_4 (dk_at dksX1_idle_1 22 rfl rfl)
theorem dX1_idle_47 : decode cX1_idle 47 = .ok (.goto 4, 3) := dk_167 0 4 (dk_at dksX1_idle_2 0 rfl rfl)
theorem dX1_idle_50 : decode cX1_idle 50 = .ok (.iconst 0, 1) := dk_3 (dk_at dksX1_idle_2 3 rfl rfl)
theorem dX1_idle_51 : decode cX1_idle 51 = .ok (.iadd, 1) := dk_96 (dk_at dksX1_idle_2 4 rfl rfl)
theorem dX1_idle_52 : decode cX1_idle 52 = .ok (.istore_n 2, 1) := dk_61 (dk_at dksX1_idle_2 5 rfl rfl)
theorem dX1_idle_53 : decode cX1_idle 53 = .ok (.iinc 3 1, 3) := dk_132 3 1 (dk_at dksX1_idle_2 6 rfl rfl)
theorem dX1_idle_56 : decode cX1_idle 56 = .ok (.goto (-43), 3) := dk_167 255 213 (dk_at dksX1_idle_2 9 rfl rfl)
theorem dX1_idle_59 : decode cX1_idle 59 = .ok (.iload_n 2, 1) := dk_28 (dk_at dksX1_idle_2 12 rfl rfl)
theorem dX1_idle_60 : decode cX1_idle 60 = .ok (.ireturn, 1) := dk_172 (dk_at dksX1_idle_2 13 rfl rfl)
abbrev cX1_isSomeonesOwn : ByteArray := prog_1_method_23_code
def yX1_isSomeonesOwn : MethodName := ⟨RX1, "isSomeonesOwn", "(I)Z"⟩
def dkwX1_isSomeonesOwn_1 : List UInt8 := [160, 0, 5, 4, 172, 132, 2, 1, 167, 255, 227, 3, 172]
abbrev dktX1_isSomeonesOwn_1 : List UInt8 := dkwX1_isSomeonesOwn_1 ++ []
def dkwX1_isSomeonesOwn_0 : List UInt8 := [3, 61, 28, 42, 180, 0, 48, 180, 0, 215, 162, 0, 24, 42, 180, 0, 48, 180, 0, 180, 28, 46, 27]
abbrev dktX1_isSomeonesOwn_0 : List UInt8 := dkwX1_isSomeonesOwn_0 ++ dktX1_isSomeonesOwn_1
theorem dksX1_isSomeonesOwn_0 : cX1_isSomeonesOwn.data.toList.drop 0 = dktX1_isSomeonesOwn_0 := by decide +kernel
theorem dksX1_isSomeonesOwn_1 : cX1_isSomeonesOwn.data.toList.drop 23 = dktX1_isSomeonesOwn_1 := dk_seg dksX1_isSomeonesOwn_0 23 rfl rfl
theorem dX1_isSomeonesOwn_0 : decode cX1_isSomeonesOwn 0 = .ok (.iconst 0, 1) := dk_3 (dk_at dksX1_isSomeonesOwn_0 0 rfl rfl)
theorem dX1_isSomeonesOwn_1 : decode cX1_isSomeonesOwn 1 = .ok (.istore_n 2, 1) := dk_61 (dk_at dksX1_isSomeonesOwn_0 1 rfl rfl)
theorem dX1_isSomeonesOwn_2 : decode cX1_isSomeonesOwn 2 = .ok (.iload_n 2, 1) := dk_28 (dk_at dksX1_isSomeonesOwn_0 2 rfl rfl)
theorem dX1_isSomeonesOwn_3 : decode cX1_isSomeonesOwn 3 = .ok (.aload_n 0, 1) := dk_42 (dk_at dksX1_isSomeonesOwn_0 3 rfl rfl)
theorem dX1_isSomeonesOwn_4 : decode cX1_isSomeonesOwn 4 = .ok (.getfield 48, 3) := dk_180 0 48 (dk_at dksX1_isSomeonesOwn_0 4 rfl rfl)
theorem dX1_isSomeonesOwn_7 : decode cX1_isSomeonesOwn 7 = .ok (.getfield 215, 3) := dk_180 0 215 (dk_at dksX1_isSomeonesOwn_0 7 rfl rfl)
theorem dX1_isSomeonesOwn_10 : decode cX1_isSomeonesOwn 10 = .ok (.if_icmp .ge 24, 3) := dk_162 0 24 (dk_at dksX1_isSomeonesOwn_0 10 rfl rfl)
theorem dX1_isSomeonesOwn_13 : decode cX1_isSomeonesOwn 13 = .ok (.aload_n 0, 1) := dk_42 (dk_at dksX1_isSomeonesOwn_0 13 rfl rfl)
theorem dX1_isSomeonesOwn_14 : decode cX1_isSomeonesOwn 14 = .ok (.getfield 48, 3) := dk_180 0 48 (dk_at dksX1_isSomeonesOwn_0 14 rfl rfl)
theorem dX1_isSomeonesOwn_17 : decode cX1_isSomeonesOwn 17 = .ok (.getfield 180, 3) := dk_180 0 180 (dk_at dksX1_isSomeonesOwn_0 17 rfl rfl)
theorem dX1_isSomeonesOwn_20 : decode cX1_isSomeonesOwn 20 = .ok (.iload_n 2, 1) := dk_28 (dk_at dksX1_isSomeonesOwn_0 20 rfl rfl)
theorem dX1_isSomeonesOwn_21 : decode cX1_isSomeonesOwn 21 = .ok (.iaload, 1) := dk_46 (dk_at dksX1_isSomeonesOwn_0 21 rfl rfl)
theorem dX1_isSomeonesOwn_22 : decode cX1_isSomeonesOwn 22 = .ok (.iload_n 1, 1) := dk_27 (dk_at dksX1_isSomeonesOwn_0 22 rfl rfl)
theorem dX1_isSomeonesOwn_23 : decode cX1_isSomeonesOwn 23 = .ok (.if_icmp .ne 5, 3) := dk_160 0 5 (dk_at dksX1_isSomeonesOwn_1 0 rfl rfl)
theorem dX1_isSomeonesOwn_26 : decode cX1_isSomeonesOwn 26 = .ok (.iconst 1, 1) := dk_4 (dk_at dksX1_isSomeonesOwn_1 3 rfl rfl)
theorem dX1_isSomeonesOwn_27 : decode cX1_isSomeonesOwn 27 = .ok (.ireturn, 1) := dk_172 (dk_at dksX1_isSomeonesOwn_1 4 rfl rfl)
theorem dX1_isSomeonesOwn_28 : decode cX1_isSomeonesOwn 28 = .ok (.iinc 2 1, 3) := dk_132 2 1 (dk_at dksX1_isSomeonesOwn_1 5 rfl rfl)
theorem dX1_isSomeonesOwn_31 : decode cX1_isSomeonesOwn 31 = .ok (.goto (-29), 3) := dk_167 255 227 (dk_at dksX1_isSomeonesOwn_1 8 rfl rfl)
theorem dX1_isSomeonesOwn_34 : decode cX1_isSomeonesOwn 34 = .ok (.iconst 0, 1) := dk_3 (dk_at dksX1_isSomeonesOwn_1 11 rfl rfl)
theorem dX1_isSomeonesOwn_35 : decode cX1_isSomeonesOwn 35 = .ok (.ireturn, 1) := dk_172 (dk_at dksX1_isSomeonesOwn_1 12 rfl rfl)
abbrev cX1_oldest : ByteArray := prog_1_method_25_code
def yX1_oldest : MethodName := ⟨RX1, "oldest", "(I)I"⟩
def dkwX1_oldest_3 : List UInt8 := [132, 3, 1, 167, 255, 200, 28, 172]
abbrev dktX1_oldest_3 : List UInt8 := dkwX1_oldest_3 ++ []
def dkwX1_oldest_2 : List UInt8 := [180, 0, 48, 180, 0, 164, 29, 46, 42, 180, 0, 48, 180, 0, 164, 28, 46, 162, 0, 5, 29, 61]
abbrev dktX1_oldest_2 : List UInt8 := dkwX1_oldest_2 ++ dktX1_oldest_3
def dkwX1_oldest_1 : List UInt8 := [162, 0, 51, 42, 180, 0, 48, 180, 0, 154, 29, 46, 27, 160, 0, 32, 28, 16, 252, 159, 0, 24, 42]
abbrev dktX1_oldest_1 : List UInt8 := dkwX1_oldest_1 ++ dktX1_oldest_2
def dkwX1_oldest_0 : List UInt8 := [27, 184, 0, 44, 154, 0, 5, 2, 172, 16, 252, 61, 3, 62, 29, 42, 180, 0, 48, 180, 0, 186]
abbrev dktX1_oldest_0 : List UInt8 := dkwX1_oldest_0 ++ dktX1_oldest_1
theorem dksX1_oldest_0 : cX1_oldest.data.toList.drop 0 = dktX1_oldest_0 := by decide +kernel
theorem dksX1_oldest_1 : cX1_oldest.data.toList.drop 22 = dktX1_oldest_1 := dk_seg dksX1_oldest_0 22 rfl rfl
theorem dksX1_oldest_2 : cX1_oldest.data.toList.drop 45 = dktX1_oldest_2 := dk_seg dksX1_oldest_1 23 rfl rfl
theorem dksX1_oldest_3 : cX1_oldest.data.toList.drop 67 = dktX1_oldest_3 := dk_seg dksX1_oldest_2 22 rfl rfl
theorem dX1_oldest_0 : decode cX1_oldest 0 = .ok (.iload_n 1, 1) := dk_27 (dk_at dksX1_oldest_0 0 rfl rfl)
theorem dX1_oldest_1 : decode cX1_oldest 1 = .ok (.invokestatic 44, 3) := dk_184 0 44 (dk_at dksX1_oldest_0 1 rfl rfl)
theorem dX1_oldest_4 : decode cX1_oldest 4 = .ok (.ifCond .ne 5, 3) := dk_154 0 5 (dk_at dksX1_oldest_0 4 rfl rfl)
theorem dX1_oldest_7 : decode cX1_oldest 7 = .ok (.iconst (-1), 1) := dk_2 (dk_at dksX1_oldest_0 7 rfl rfl)
theorem dX1_oldest_8 : decode cX1_oldest 8 = .ok (.ireturn, 1) := dk_172 (dk_at dksX1_oldest_0 8 rfl rfl)
theorem dX1_oldest_9 : decode cX1_oldest 9 = .ok (.bipush (-4), 2) := dk_16 252 (dk_at dksX1_oldest_0 9 rfl rfl)
theorem dX1_oldest_11 : decode cX1_oldest 11 = .ok (.istore_n 2, 1) := dk_61 (dk_at dksX1_oldest_0 11 rfl rfl)
theorem dX1_oldest_12 : decode cX1_oldest 12 = .ok (.iconst 0, 1) := dk_3 (dk_at dksX1_oldest_0 12 rfl rfl)
theorem dX1_oldest_13 : decode cX1_oldest 13 = .ok (.istore_n 3, 1) := dk_62 (dk_at dksX1_oldest_0 13 rfl rfl)
theorem dX1_oldest_14 : decode cX1_oldest 14 = .ok (.iload_n 3, 1) := dk_29 (dk_at dksX1_oldest_0 14 rfl rfl)
theorem dX1_oldest_15 : decode cX1_oldest 15 = .ok (.aload_n 0, 1) := dk_42 (dk_at dksX1_oldest_0 15 rfl rfl)
theorem dX1_oldest_16 : decode cX1_oldest 16 = .ok (.getfield 48, 3) := dk_180 0 48 (dk_at dksX1_oldest_0 16 rfl rfl)
theorem dX1_oldest_19 : decode cX1_oldest 19 = .ok (.getfield 186, 3) := dk_180 0 186 (dk_at dksX1_oldest_0 19 rfl rfl)
theorem dX1_oldest_22 : decode cX1_oldest 22 = .ok (.if_icmp .ge 51, 3) := dk_162 0 51 (dk_at dksX1_oldest_1 0 rfl rfl)
theorem dX1_oldest_25 : decode cX1_oldest 25 = .ok (.aload_n 0, 1) := dk_42 (dk_at dksX1_oldest_1 3 rfl rfl)
theorem dX1_oldest_26 : decode cX1_oldest 26 = .ok (.getfield 48, 3) := dk_180 0 48 (dk_at dksX1_oldest_1 4 rfl rfl)
theorem dX1_oldest_29 : decode cX1_oldest 29 = .ok (.getfield 154, 3) := dk_180 0 154 (dk_at dksX1_oldest_1 7 rfl rfl)
theorem dX1_oldest_32 : decode cX1_oldest 32 = .ok (.iload_n 3, 1) := dk_29 (dk_at dksX1_oldest_1 10 rfl rfl)
theorem dX1_oldest_33 : decode cX1_oldest 33 = .ok (.iaload, 1) := dk_46 (dk_at dksX1_oldest_1 11 rfl rfl)
theorem dX1_oldest_34 : decode cX1_oldest 34 = .ok (.iload_n 1, 1) := dk_27 (dk_at dksX1_oldest_1 12 rfl rfl)
theorem dX1_oldest_35 : decode cX1_oldest 35 = .ok (.if_icmp .ne 32, 3) := dk_160 0 32 (dk_at dksX1_oldest_1 13 rfl rfl)
theorem dX1_oldest_38 : decode cX1_oldest 38 = .ok (.iload_n 2, 1) := dk_28 (dk_at dksX1_oldest_1 16 rfl rfl)
theorem dX1_oldest_39 : decode cX1_oldest 39 = .ok (.bipush (-4), 2) := dk_16 252 (dk_at dksX1_oldest_1 17 rfl rfl)
theorem dX1_oldest_41 : decode cX1_oldest 41 = .ok (.if_icmp .eq 24, 3) := dk_159 0 24 (dk_at dksX1_oldest_1 19 rfl rfl)
theorem dX1_oldest_44 : decode cX1_oldest 44 = .ok (.aload_n 0, 1) := dk_42 (dk_at dksX1_oldest_1 22 rfl rfl)
theorem dX1_oldest_45 : decode cX1_oldest 45 = .ok (.getfield 48, 3) := dk_180 0 48 (dk_at dksX1_oldest_2 0 rfl rfl)
theorem dX1_oldest_48 : decode cX1_oldest 48 = .ok (.getfield 164, 3) := dk_180 0 164 (dk_at dksX1_oldest_2 3 rfl rfl)
theorem dX1_oldest_51 : decode cX1_oldest 51 = .ok (.iload_n 3, 1) := dk_29 (dk_at dksX1_oldest_2 6 rfl rfl)
theorem dX1_oldest_52 : decode cX1_oldest 52 = .ok (.iaload, 1) := dk_46 (dk_at dksX1_oldest_2 7 rfl rfl)
theorem dX1_oldest_53 : decode cX1_oldest 53 = .ok (.aload_n 0, 1) := dk_42 (dk_at dksX1_oldest_2 8 rfl rfl)
theorem dX1_oldest_54 : decode cX1_oldest 54 = .ok (.getfield 48, 3) := dk_180 0 48 (dk_at dksX1_oldest_2 9 rfl rfl)
theorem dX1_oldest_57 : decode cX1_oldest 57 = .ok (.getfield 164, 3) := dk_180 0 164 (dk_at dksX1_oldest_2 12 rfl rfl)
theorem dX1_oldest_60 : decode cX1_oldest 60 = .ok (.iload_n 2, 1) := dk_28 (dk_at dksX1_oldest_2 15 rfl rfl)
theorem dX1_oldest_61 : decode cX1_oldest 61 = .ok (.iaload, 1) := dk_46 (dk_at dksX1_oldest_2 16 rfl rfl)
theorem dX1_oldest_62 : decode cX1_oldest 62 = .ok (.if_icmp .ge 5, 3) := dk_162 0 5 (dk_at dksX1_oldest_2 17 rfl rfl)
theorem dX1_oldest_65 : decode cX1_oldest 65 = .ok (.iload_n 3, 1) := dk_29 (dk_at dksX1_oldest_2 20 rfl rfl)
theorem dX1_oldest_66 : decode cX1_oldest 66 = .ok (.istore_n 2, 1) := dk_61 (dk_at dksX1_oldest_2 21 rfl rfl)
theorem dX1_oldest_67 : decode cX1_oldest 67 = .ok (.iinc 3 1, 3) := dk_132 3 1 (dk_at dksX1_oldest_3 0 rfl rfl)
theorem dX1_oldest_70 : decode cX1_oldest 70 = .ok (.goto (-56), 3) := dk_167 255 200 (dk_at dksX1_oldest_3 3 rfl rfl)
theorem dX1_oldest_73 : decode cX1_oldest 73 = .ok (.iload_n 2, 1) := dk_28 (dk_at dksX1_oldest_3 6 rfl rfl)
theorem dX1_oldest_74 : decode cX1_oldest 74 = .ok (.ireturn, 1) := dk_172 (dk_at dksX1_oldest_3 7 rfl rfl)
abbrev cX1_mistakes : ByteArray := prog_1_method_29_code
def yX1_mistakes : MethodName := ⟨RX1, "mistakes", "(I)I"⟩
def dkwX1_mistakes_0 : List UInt8 := [27, 184, 0, 230, 154, 0, 5, 2, 172, 42, 27, 182, 0, 233, 42, 180, 0, 221, 180, 0, 236, 172]
abbrev dktX1_mistakes_0 : List UInt8 := dkwX1_mistakes_0 ++ []
theorem dksX1_mistakes_0 : cX1_mistakes.data.toList.drop 0 = dktX1_mistakes_0 := by decide +kernel
theorem dX1_mistakes_0 : decode cX1_mistakes 0 = .ok (.iload_n 1, 1) := dk_27 (dk_at dksX1_mistakes_0 0 rfl rfl)
theorem dX1_mistakes_1 : decode cX1_mistakes 1 = .ok (.invokestatic 230, 3) := dk_184 0 230 (dk_at dksX1_mistakes_0 1 rfl rfl)
theorem dX1_mistakes_4 : decode cX1_mistakes 4 = .ok (.ifCond .ne 5, 3) := dk_154 0 5 (dk_at dksX1_mistakes_0 4 rfl rfl)
theorem dX1_mistakes_7 : decode cX1_mistakes 7 = .ok (.iconst (-1), 1) := dk_2 (dk_at dksX1_mistakes_0 7 rfl rfl)
theorem dX1_mistakes_8 : decode cX1_mistakes 8 = .ok (.ireturn, 1) := dk_172 (dk_at dksX1_mistakes_0 8 rfl rfl)
theorem dX1_mistakes_9 : decode cX1_mistakes 9 = .ok (.aload_n 0, 1) := dk_42 (dk_at dksX1_mistakes_0 9 rfl rfl)
theorem dX1_mistakes_10 : decode cX1_mistakes 10 = .ok (.iload_n 1, 1) := dk_27 (dk_at dksX1_mistakes_0 10 rfl rfl)
theorem dX1_mistakes_11 : decode cX1_mistakes 11 = .ok (.invokevirtual 233, 3) := dk_182 0 233 (dk_at dksX1_mistakes_0 11 rfl rfl)
theorem dX1_mistakes_14 : decode cX1_mistakes 14 = .ok (.aload_n 0, 1) := dk_42 (dk_at dksX1_mistakes_0 14 rfl rfl)
theorem dX1_mistakes_15 : decode cX1_mistakes 15 = .ok (.getfield 221, 3) := dk_180 0 221 (dk_at dksX1_mistakes_0 15 rfl rfl)
theorem dX1_mistakes_18 : decode cX1_mistakes 18 = .ok (.getfield 236, 3) := dk_180 0 236 (dk_at dksX1_mistakes_0 18 rfl rfl)
theorem dX1_mistakes_21 : decode cX1_mistakes 21 = .ok (.ireturn, 1) := dk_172 (dk_at dksX1_mistakes_0 21 rfl rfl)
abbrev cX1_isAhead : ByteArray := prog_1_method_26_code
def yX1_isAhead : MethodName := ⟨RX1, "isAhead", "(I)Z"⟩
def dkwX1_isAhead_0 : List UInt8 := [26, 3, 16, 60, 184, 0, 3, 172]
abbrev dktX1_isAhead_0 : List UInt8 := dkwX1_isAhead_0 ++ []
theorem dksX1_isAhead_0 : cX1_isAhead.data.toList.drop 0 = dktX1_isAhead_0 := by decide +kernel
theorem dX1_isAhead_0 : decode cX1_isAhead 0 = .ok (.iload_n 0, 1) := dk_26 (dk_at dksX1_isAhead_0 0 rfl rfl)
theorem dX1_isAhead_1 : decode cX1_isAhead 1 = .ok (.iconst 0, 1) := dk_3 (dk_at dksX1_isAhead_0 1 rfl rfl)
theorem dX1_isAhead_2 : decode cX1_isAhead 2 = .ok (.bipush 60, 2) := dk_16 60 (dk_at dksX1_isAhead_0 2 rfl rfl)
theorem dX1_isAhead_4 : decode cX1_isAhead 4 = .ok (.invokestatic 3, 3) := dk_184 0 3 (dk_at dksX1_isAhead_0 4 rfl rfl)
theorem dX1_isAhead_7 : decode cX1_isAhead 7 = .ok (.ireturn, 1) := dk_172 (dk_at dksX1_isAhead_0 7 rfl rfl)
abbrev cX1_minds : ByteArray := prog_1_method_28_code
def yX1_minds : MethodName := ⟨RX1, "minds", "(I)V"⟩
def dkwX1_minds_0 : List UInt8 := [42, 180, 0, 221, 42, 180, 0, 48, 182, 0, 111, 42, 27, 182, 0, 227, 177]
abbrev dktX1_minds_0 : List UInt8 := dkwX1_minds_0 ++ []
theorem dksX1_minds_0 : cX1_minds.data.toList.drop 0 = dktX1_minds_0 := by decide +kernel
theorem dX1_minds_0 : decode cX1_minds 0 = .ok (.aload_n 0, 1) := dk_42 (dk_at dksX1_minds_0 0 rfl rfl)
theorem dX1_minds_1 : decode cX1_minds 1 = .ok (.getfield 221, 3) := dk_180 0 221 (dk_at dksX1_minds_0 1 rfl rfl)
theorem dX1_minds_4 : decode cX1_minds 4 = .ok (.aload_n 0, 1) := dk_42 (dk_at dksX1_minds_0 4 rfl rfl)
theorem dX1_minds_5 : decode cX1_minds 5 = .ok (.getfield 48, 3) := dk_180 0 48 (dk_at dksX1_minds_0 5 rfl rfl)
theorem dX1_minds_8 : decode cX1_minds 8 = .ok (.invokevirtual 111, 3) := dk_182 0 111 (dk_at dksX1_minds_0 8 rfl rfl)
theorem dX1_minds_11 : decode cX1_minds 11 = .ok (.aload_n 0, 1) := dk_42 (dk_at dksX1_minds_0 11 rfl rfl)
theorem dX1_minds_12 : decode cX1_minds 12 = .ok (.iload_n 1, 1) := dk_27 (dk_at dksX1_minds_0 12 rfl rfl)
theorem dX1_minds_13 : decode cX1_minds 13 = .ok (.invokevirtual 227, 3) := dk_182 0 227 (dk_at dksX1_minds_0 13 rfl rfl)
theorem dX1_minds_16 : decode cX1_minds 16 = .ok (.return_, 1) := dk_177 (dk_at dksX1_minds_0 16 rfl rfl)
abbrev cX1_goes : ByteArray := prog_1_method_27_code
def yX1_goes : MethodName := ⟨RX1, "goes", "(I)V"⟩
def dkwX1_goes_0 : List UInt8 := [3, 61, 28, 27, 162, 0, 16, 42, 180, 0, 221, 182, 0, 224, 132, 2, 1, 167, 255, 241, 177]
abbrev dktX1_goes_0 : List UInt8 := dkwX1_goes_0 ++ []
theorem dksX1_goes_0 : cX1_goes.data.toList.drop 0 = dktX1_goes_0 := by decide +kernel
theorem dX1_goes_0 : decode cX1_goes 0 = .ok (.iconst 0, 1) := dk_3 (dk_at dksX1_goes_0 0 rfl rfl)
theorem dX1_goes_1 : decode cX1_goes 1 = .ok (.istore_n 2, 1) := dk_61 (dk_at dksX1_goes_0 1 rfl rfl)
theorem dX1_goes_2 : decode cX1_goes 2 = .ok (.iload_n 2, 1) := dk_28 (dk_at dksX1_goes_0 2 rfl rfl)
theorem dX1_goes_3 : decode cX1_goes 3 = .ok (.iload_n 1, 1) := dk_27 (dk_at dksX1_goes_0 3 rfl rfl)
theorem dX1_goes_4 : decode cX1_goes 4 = .ok (.if_icmp .ge 16, 3) := dk_162 0 16 (dk_at dksX1_goes_0 4 rfl rfl)
theorem dX1_goes_7 : decode cX1_goes 7 = .ok (.aload_n 0, 1) := dk_42 (dk_at dksX1_goes_0 7 rfl rfl)
theorem dX1_goes_8 : decode cX1_goes 8 = .ok (.getfield 221, 3) := dk_180 0 221 (dk_at dksX1_goes_0 8 rfl rfl)
theorem dX1_goes_11 : decode cX1_goes 11 = .ok (.invokevirtual 224, 3) := dk_182 0 224 (dk_at dksX1_goes_0 11 rfl rfl)
theorem dX1_goes_14 : decode cX1_goes 14 = .ok (.iinc 2 1, 3) := dk_132 2 1 (dk_at dksX1_goes_0 14 rfl rfl)
theorem dX1_goes_17 : decode cX1_goes 17 = .ok (.goto (-15), 3) := dk_167 255 241 (dk_at dksX1_goes_0 17 rfl rfl)
theorem dX1_goes_20 : decode cX1_goes 20 = .ok (.return_, 1) := dk_177 (dk_at dksX1_goes_0 20 rfl rfl)
abbrev cX1_fresh : ByteArray := prog_1_method_30_code
def yX1_fresh : MethodName := ⟨RX1, "fresh", "(I)I"⟩
def dkwX1_fresh_0 : List UInt8 := [27, 184, 0, 230, 154, 0, 5, 2, 172, 42, 27, 182, 0, 233, 42, 180, 0, 221, 180, 0, 239, 172]
abbrev dktX1_fresh_0 : List UInt8 := dkwX1_fresh_0 ++ []
theorem dksX1_fresh_0 : cX1_fresh.data.toList.drop 0 = dktX1_fresh_0 := by decide +kernel
theorem dX1_fresh_0 : decode cX1_fresh 0 = .ok (.iload_n 1, 1) := dk_27 (dk_at dksX1_fresh_0 0 rfl rfl)
theorem dX1_fresh_1 : decode cX1_fresh 1 = .ok (.invokestatic 230, 3) := dk_184 0 230 (dk_at dksX1_fresh_0 1 rfl rfl)
theorem dX1_fresh_4 : decode cX1_fresh 4 = .ok (.ifCond .ne 5, 3) := dk_154 0 5 (dk_at dksX1_fresh_0 4 rfl rfl)
theorem dX1_fresh_7 : decode cX1_fresh 7 = .ok (.iconst (-1), 1) := dk_2 (dk_at dksX1_fresh_0 7 rfl rfl)
theorem dX1_fresh_8 : decode cX1_fresh 8 = .ok (.ireturn, 1) := dk_172 (dk_at dksX1_fresh_0 8 rfl rfl)
theorem dX1_fresh_9 : decode cX1_fresh 9 = .ok (.aload_n 0, 1) := dk_42 (dk_at dksX1_fresh_0 9 rfl rfl)
theorem dX1_fresh_10 : decode cX1_fresh 10 = .ok (.iload_n 1, 1) := dk_27 (dk_at dksX1_fresh_0 10 rfl rfl)
theorem dX1_fresh_11 : decode cX1_fresh 11 = .ok (.invokevirtual 233, 3) := dk_182 0 233 (dk_at dksX1_fresh_0 11 rfl rfl)
theorem dX1_fresh_14 : decode cX1_fresh 14 = .ok (.aload_n 0, 1) := dk_42 (dk_at dksX1_fresh_0 14 rfl rfl)
theorem dX1_fresh_15 : decode cX1_fresh 15 = .ok (.getfield 221, 3) := dk_180 0 221 (dk_at dksX1_fresh_0 15 rfl rfl)
theorem dX1_fresh_18 : decode cX1_fresh 18 = .ok (.getfield 239, 3) := dk_180 0 239 (dk_at dksX1_fresh_0 18 rfl rfl)
theorem dX1_fresh_21 : decode cX1_fresh 21 = .ok (.ireturn, 1) := dk_172 (dk_at dksX1_fresh_0 21 rfl rfl)
abbrev cX1_colds : ByteArray := prog_1_method_31_code
def yX1_colds : MethodName := ⟨RX1, "colds", "(I)I"⟩
def dkwX1_colds_0 : List UInt8 := [27, 184, 0, 230, 154, 0, 5, 2, 172, 42, 27, 182, 0, 233, 42, 180, 0, 221, 180, 0, 82, 172]
abbrev dktX1_colds_0 : List UInt8 := dkwX1_colds_0 ++ []
theorem dksX1_colds_0 : cX1_colds.data.toList.drop 0 = dktX1_colds_0 := by decide +kernel
theorem dX1_colds_0 : decode cX1_colds 0 = .ok (.iload_n 1, 1) := dk_27 (dk_at dksX1_colds_0 0 rfl rfl)
theorem dX1_colds_1 : decode cX1_colds 1 = .ok (.invokestatic 230, 3) := dk_184 0 230 (dk_at dksX1_colds_0 1 rfl rfl)
theorem dX1_colds_4 : decode cX1_colds 4 = .ok (.ifCond .ne 5, 3) := dk_154 0 5 (dk_at dksX1_colds_0 4 rfl rfl)
theorem dX1_colds_7 : decode cX1_colds 7 = .ok (.iconst (-1), 1) := dk_2 (dk_at dksX1_colds_0 7 rfl rfl)
theorem dX1_colds_8 : decode cX1_colds 8 = .ok (.ireturn, 1) := dk_172 (dk_at dksX1_colds_0 8 rfl rfl)
theorem dX1_colds_9 : decode cX1_colds 9 = .ok (.aload_n 0, 1) := dk_42 (dk_at dksX1_colds_0 9 rfl rfl)
theorem dX1_colds_10 : decode cX1_colds 10 = .ok (.iload_n 1, 1) := dk_27 (dk_at dksX1_colds_0 10 rfl rfl)
theorem dX1_colds_11 : decode cX1_colds 11 = .ok (.invokevirtual 233, 3) := dk_182 0 233 (dk_at dksX1_colds_0 11 rfl rfl)
theorem dX1_colds_14 : decode cX1_colds 14 = .ok (.aload_n 0, 1) := dk_42 (dk_at dksX1_colds_0 14 rfl rfl)
theorem dX1_colds_15 : decode cX1_colds 15 = .ok (.getfield 221, 3) := dk_180 0 221 (dk_at dksX1_colds_0 15 rfl rfl)
theorem dX1_colds_18 : decode cX1_colds 18 = .ok (.getfield 82, 3) := dk_180 0 82 (dk_at dksX1_colds_0 18 rfl rfl)
theorem dX1_colds_21 : decode cX1_colds 21 = .ok (.ireturn, 1) := dk_172 (dk_at dksX1_colds_0 21 rfl rfl)
abbrev cX1_had : ByteArray := prog_1_method_32_code
def yX1_had : MethodName := ⟨RX1, "had", "(II)I"⟩
def dkwX1_had_1 : List UInt8 := [182, 0, 233, 42, 180, 0, 221, 180, 0, 183, 27, 46, 172]
abbrev dktX1_had_1 : List UInt8 := dkwX1_had_1 ++ []
def dkwX1_had_0 : List UInt8 := [42, 180, 0, 48, 27, 182, 0, 66, 153, 0, 10, 28, 184, 0, 230, 154, 0, 5, 2, 172, 42, 28]
abbrev dktX1_had_0 : List UInt8 := dkwX1_had_0 ++ dktX1_had_1
theorem dksX1_had_0 : cX1_had.data.toList.drop 0 = dktX1_had_0 := by decide +kernel
theorem dksX1_had_1 : cX1_had.data.toList.drop 22 = dktX1_had_1 := dk_seg dksX1_had_0 22 rfl rfl
theorem dX1_had_0 : decode cX1_had 0 = .ok (.aload_n 0, 1) := dk_42 (dk_at dksX1_had_0 0 rfl rfl)
theorem dX1_had_1 : decode cX1_had 1 = .ok (.getfield 48, 3) := dk_180 0 48 (dk_at dksX1_had_0 1 rfl rfl)
theorem dX1_had_4 : decode cX1_had 4 = .ok (.iload_n 1, 1) := dk_27 (dk_at dksX1_had_0 4 rfl rfl)
theorem dX1_had_5 : decode cX1_had 5 = .ok (.invokevirtual 66, 3) := dk_182 0 66 (dk_at dksX1_had_0 5 rfl rfl)
theorem dX1_had_8 : decode cX1_had 8 = .ok (.ifCond .eq 10, 3) := dk_153 0 10 (dk_at dksX1_had_0 8 rfl rfl)
theorem dX1_had_11 : decode cX1_had 11 = .ok (.iload_n 2, 1) := dk_28 (dk_at dksX1_had_0 11 rfl rfl)
theorem dX1_had_12 : decode cX1_had 12 = .ok (.invokestatic 230, 3) := dk_184 0 230 (dk_at dksX1_had_0 12 rfl rfl)
theorem dX1_had_15 : decode cX1_had 15 = .ok (.ifCond .ne 5, 3) := dk_154 0 5 (dk_at dksX1_had_0 15 rfl rfl)
theorem dX1_had_18 : decode cX1_had 18 = .ok (.iconst (-1), 1) := dk_2 (dk_at dksX1_had_0 18 rfl rfl)
theorem dX1_had_19 : decode cX1_had 19 = .ok (.ireturn, 1) := dk_172 (dk_at dksX1_had_0 19 rfl rfl)
theorem dX1_had_20 : decode cX1_had 20 = .ok (.aload_n 0, 1) := dk_42 (dk_at dksX1_had_0 20 rfl rfl)
theorem dX1_had_21 : decode cX1_had 21 = .ok (.iload_n 2, 1) := dk_28 (dk_at dksX1_had_0 21 rfl rfl)
theorem dX1_had_22 : decode cX1_had 22 = .ok (.invokevirtual 233, 3) := dk_182 0 233 (dk_at dksX1_had_1 0 rfl rfl)
theorem dX1_had_25 : decode cX1_had 25 = .ok (.aload_n 0, 1) := dk_42 (dk_at dksX1_had_1 3 rfl rfl)
theorem dX1_had_26 : decode cX1_had 26 = .ok (.getfield 221, 3) := dk_180 0 221 (dk_at dksX1_had_1 4 rfl rfl)
theorem dX1_had_29 : decode cX1_had 29 = .ok (.getfield 183, 3) := dk_180 0 183 (dk_at dksX1_had_1 7 rfl rfl)
theorem dX1_had_32 : decode cX1_had 32 = .ok (.iload_n 1, 1) := dk_27 (dk_at dksX1_had_1 10 rfl rfl)
theorem dX1_had_33 : decode cX1_had 33 = .ok (.iaload, 1) := dk_46 (dk_at dksX1_had_1 11 rfl rfl)
theorem dX1_had_34 : decode cX1_had 34 = .ok (.ireturn, 1) := dk_172 (dk_at dksX1_had_1 12 rfl rfl)
abbrev cX1_where : ByteArray := prog_1_method_33_code
def yX1_where : MethodName := ⟨RX1, "where", "(II)I"⟩
def dkwX1_where_1 : List UInt8 := [182, 0, 233, 42, 180, 0, 221, 180, 0, 154, 27, 46, 172]
abbrev dktX1_where_1 : List UInt8 := dkwX1_where_1 ++ []
def dkwX1_where_0 : List UInt8 := [42, 180, 0, 48, 27, 182, 0, 69, 153, 0, 10, 28, 184, 0, 230, 154, 0, 5, 2, 172, 42, 28]
abbrev dktX1_where_0 : List UInt8 := dkwX1_where_0 ++ dktX1_where_1
theorem dksX1_where_0 : cX1_where.data.toList.drop 0 = dktX1_where_0 := by decide +kernel
theorem dksX1_where_1 : cX1_where.data.toList.drop 22 = dktX1_where_1 := dk_seg dksX1_where_0 22 rfl rfl
theorem dX1_where_0 : decode cX1_where 0 = .ok (.aload_n 0, 1) := dk_42 (dk_at dksX1_where_0 0 rfl rfl)
theorem dX1_where_1 : decode cX1_where 1 = .ok (.getfield 48, 3) := dk_180 0 48 (dk_at dksX1_where_0 1 rfl rfl)
theorem dX1_where_4 : decode cX1_where 4 = .ok (.iload_n 1, 1) := dk_27 (dk_at dksX1_where_0 4 rfl rfl)
theorem dX1_where_5 : decode cX1_where 5 = .ok (.invokevirtual 69, 3) := dk_182 0 69 (dk_at dksX1_where_0 5 rfl rfl)
theorem dX1_where_8 : decode cX1_where 8 = .ok (.ifCond .eq 10, 3) := dk_153 0 10 (dk_at dksX1_where_0 8 rfl rfl)
theorem dX1_where_11 : decode cX1_where 11 = .ok (.iload_n 2, 1) := dk_28 (dk_at dksX1_where_0 11 rfl rfl)
theorem dX1_where_12 : decode cX1_where 12 = .ok (.invokestatic 230, 3) := dk_184 0 230 (dk_at dksX1_where_0 12 rfl rfl)
theorem dX1_where_15 : decode cX1_where 15 = .ok (.ifCond .ne 5, 3) := dk_154 0 5 (dk_at dksX1_where_0 15 rfl rfl)
theorem dX1_where_18 : decode cX1_where 18 = .ok (.iconst (-1), 1) := dk_2 (dk_at dksX1_where_0 18 rfl rfl)
theorem dX1_where_19 : decode cX1_where 19 = .ok (.ireturn, 1) := dk_172 (dk_at dksX1_where_0 19 rfl rfl)
theorem dX1_where_20 : decode cX1_where 20 = .ok (.aload_n 0, 1) := dk_42 (dk_at dksX1_where_0 20 rfl rfl)
theorem dX1_where_21 : decode cX1_where 21 = .ok (.iload_n 2, 1) := dk_28 (dk_at dksX1_where_0 21 rfl rfl)
theorem dX1_where_22 : decode cX1_where 22 = .ok (.invokevirtual 233, 3) := dk_182 0 233 (dk_at dksX1_where_1 0 rfl rfl)
theorem dX1_where_25 : decode cX1_where 25 = .ok (.aload_n 0, 1) := dk_42 (dk_at dksX1_where_1 3 rfl rfl)
theorem dX1_where_26 : decode cX1_where 26 = .ok (.getfield 221, 3) := dk_180 0 221 (dk_at dksX1_where_1 4 rfl rfl)
theorem dX1_where_29 : decode cX1_where 29 = .ok (.getfield 154, 3) := dk_180 0 154 (dk_at dksX1_where_1 7 rfl rfl)
theorem dX1_where_32 : decode cX1_where 32 = .ok (.iload_n 1, 1) := dk_27 (dk_at dksX1_where_1 10 rfl rfl)
theorem dX1_where_33 : decode cX1_where 33 = .ok (.iaload, 1) := dk_46 (dk_at dksX1_where_1 11 rfl rfl)
theorem dX1_where_34 : decode cX1_where 34 = .ok (.ireturn, 1) := dk_172 (dk_at dksX1_where_1 12 rfl rfl)
abbrev cX1_brought : ByteArray := prog_1_method_34_code
def yX1_brought : MethodName := ⟨RX1, "brought", "(II)I"⟩
def dkwX1_brought_5 : List UInt8 := [3, 128, 62, 132, 4, 1, 167, 255, 165, 29, 172]
abbrev dktX1_brought_5 : List UInt8 := dkwX1_brought_5 ++ []
def dkwX1_brought_4 : List UInt8 := [42, 28, 182, 0, 227, 29, 42, 180, 0, 221, 180, 0, 82, 27, 160, 0, 10, 4, 21, 4, 120, 167, 0, 4]
abbrev dktX1_brought_4 : List UInt8 := dkwX1_brought_4 ++ dktX1_brought_5
def dkwX1_brought_3 : List UInt8 := [21, 5, 16, 12, 162, 0, 20, 42, 180, 0, 221, 180, 0, 160, 21, 5, 3, 84, 132, 5, 1, 167, 255, 235]
abbrev dktX1_brought_3 : List UInt8 := dkwX1_brought_3 ++ dktX1_brought_4
def dkwX1_brought_2 : List UInt8 := [180, 0, 221, 42, 180, 0, 48, 182, 0, 111, 42, 180, 0, 221, 4, 21, 4, 120, 181, 0, 82, 3, 54, 5]
abbrev dktX1_brought_2 : List UInt8 := dkwX1_brought_2 ++ dktX1_brought_3
def dkwX1_brought_1 : List UInt8 := [154, 0, 5, 2, 172, 3, 62, 3, 54, 4, 21, 4, 42, 180, 0, 48, 180, 0, 215, 162, 0, 85, 42]
abbrev dktX1_brought_1 : List UInt8 := dkwX1_brought_1 ++ dktX1_brought_2
def dkwX1_brought_0 : List UInt8 := [27, 3, 4, 42, 180, 0, 48, 180, 0, 215, 120, 4, 100, 184, 0, 3, 153, 0, 10, 28, 184, 0, 230]
abbrev dktX1_brought_0 : List UInt8 := dkwX1_brought_0 ++ dktX1_brought_1
theorem dksX1_brought_0 : cX1_brought.data.toList.drop 0 = dktX1_brought_0 := by decide +kernel
theorem dksX1_brought_1 : cX1_brought.data.toList.drop 23 = dktX1_brought_1 := dk_seg dksX1_brought_0 23 rfl rfl
theorem dksX1_brought_2 : cX1_brought.data.toList.drop 46 = dktX1_brought_2 := dk_seg dksX1_brought_1 23 rfl rfl
theorem dksX1_brought_3 : cX1_brought.data.toList.drop 70 = dktX1_brought_3 := dk_seg dksX1_brought_2 24 rfl rfl
theorem dksX1_brought_4 : cX1_brought.data.toList.drop 94 = dktX1_brought_4 := dk_seg dksX1_brought_3 24 rfl rfl
theorem dksX1_brought_5 : cX1_brought.data.toList.drop 118 = dktX1_brought_5 := dk_seg dksX1_brought_4 24 rfl rfl
theorem dX1_brought_0 : decode cX1_brought 0 = .ok (.iload_n 1, 1) := dk_27 (dk_at dksX1_brought_0 0 rfl rfl)
theorem dX1_brought_1 : decode cX1_brought 1 = .ok (.iconst 0, 1) := dk_3 (dk_at dksX1_brought_0 1 rfl rfl)
theorem dX1_brought_2 : decode cX1_brought 2 = .ok (.iconst 1, 1) := dk_4 (dk_at dksX1_brought_0 2 rfl rfl)
theorem dX1_brought_3 : decode cX1_brought 3 = .ok (.aload_n 0, 1) := dk_42 (dk_at dksX1_brought_0 3 rfl rfl)
theorem dX1_brought_4 : decode cX1_brought 4 = .ok (.getfield 48, 3) := dk_180 0 48 (dk_at dksX1_brought_0 4 rfl rfl)
theorem dX1_brought_7 : decode cX1_brought 7 = .ok (.getfield 215, 3) := dk_180 0 215 (dk_at dksX1_brought_0 7 rfl rfl)
theorem dX1_brought_10 : decode cX1_brought 10 = .ok (.ishl, 1) := dk_120 (dk_at dksX1_brought_0 10 rfl rfl)
theorem dX1_brought_11 : decode cX1_brought 11 = .ok (.iconst 1, 1) := dk_4 (dk_at dksX1_brought_0 11 rfl rfl)
theorem dX1_brought_12 : decode cX1_brought 12 = .ok (.isub, 1) := dk_100 (dk_at dksX1_brought_0 12 rfl rfl)
theorem dX1_brought_13 : decode cX1_brought 13 = .ok (.invokestatic 3, 3) := dk_184 0 3 (dk_at dksX1_brought_0 13 rfl rfl)
theorem dX1_brought_16 : decode cX1_brought 16 = .ok (.ifCond .eq 10, 3) := dk_153 0 10 (dk_at dksX1_brought_0 16 rfl rfl)
theorem dX1_brought_19 : decode cX1_brought 19 = .ok (.iload_n 2, 1) := dk_28 (dk_at dksX1_brought_0 19 rfl rfl)
theorem dX1_brought_20 : decode cX1_brought 20 = .ok (.invokestatic 230, 3) := dk_184 0 230 (dk_at dksX1_brought_0 20 rfl rfl)
theorem dX1_brought_23 : decode cX1_brought 23 = .ok (.ifCond .ne 5, 3) := dk_154 0 5 (dk_at dksX1_brought_1 0 rfl rfl)
theorem dX1_brought_26 : decode cX1_brought 26 = .ok (.iconst (-1), 1) := dk_2 (dk_at dksX1_brought_1 3 rfl rfl)
theorem dX1_brought_27 : decode cX1_brought 27 = .ok (.ireturn, 1) := dk_172 (dk_at dksX1_brought_1 4 rfl rfl)
theorem dX1_brought_28 : decode cX1_brought 28 = .ok (.iconst 0, 1) := dk_3 (dk_at dksX1_brought_1 5 rfl rfl)
theorem dX1_brought_29 : decode cX1_brought 29 = .ok (.istore_n 3, 1) := dk_62 (dk_at dksX1_brought_1 6 rfl rfl)
theorem dX1_brought_30 : decode cX1_brought 30 = .ok (.iconst 0, 1) := dk_3 (dk_at dksX1_brought_1 7 rfl rfl)
theorem dX1_brought_31 : decode cX1_brought 31 = .ok (.istore 4, 2) := dk_54 4 (dk_at dksX1_brought_1 8 rfl rfl)
theorem dX1_brought_33 : decode cX1_brought 33 = .ok (.iload 4, 2) := dk_21 4 (dk_at dksX1_brought_1 10 rfl rfl)
theorem dX1_brought_35 : decode cX1_brought 35 = .ok (.aload_n 0, 1) := dk_42 (dk_at dksX1_brought_1 12 rfl rfl)
theorem dX1_brought_36 : decode cX1_brought 36 = .ok (.getfield 48, 3) := dk_180 0 48 (dk_at dksX1_brought_1 13 rfl rfl)
theorem dX1_brought_39 : decode cX1_brought 39 = .ok (.getfield 215, 3) := dk_180 0 215 (dk_at dksX1_brought_1 16 rfl rfl)
theorem dX1_brought_42 : decode cX1_brought 42 = .ok (.if_icmp .ge 85, 3) := dk_162 0 85 (dk_at dksX1_brought_1 19 rfl rfl)
theorem dX1_brought_45 : decode cX1_brought 45 = .ok (.aload_n 0, 1) := dk_42 (dk_at dksX1_brought_1 22 rfl rfl)
theorem dX1_brought_46 : decode cX1_brought 46 = .ok (.getfield 221, 3) := dk_180 0 221 (dk_at dksX1_brought_2 0 rfl rfl)
theorem dX1_brought_49 : decode cX1_brought 49 = .ok (.aload_n 0, 1) := dk_42 (dk_at dksX1_brought_2 3 rfl rfl)
theorem dX1_brought_50 : decode cX1_brought 50 = .ok (.getfield 48, 3) := dk_180 0 48 (dk_at dksX1_brought_2 4 rfl rfl)
theorem dX1_brought_53 : decode cX1_brought 53 = .ok (.invokevirtual 111, 3) := dk_182 0 111 (dk_at dksX1_brought_2 7 rfl rfl)
theorem dX1_brought_56 : decode cX1_brought 56 = .ok (.aload_n 0, 1) := dk_42 (dk_at dksX1_brought_2 10 rfl rfl)
theorem dX1_brought_57 : decode cX1_brought 57 = .ok (.getfield 221, 3) := dk_180 0 221 (dk_at dksX1_brought_2 11 rfl rfl)
theorem dX1_brought_60 : decode cX1_brought 60 = .ok (.iconst 1, 1) := dk_4 (dk_at dksX1_brought_2 14 rfl rfl)
theorem dX1_brought_61 : decode cX1_brought 61 = .ok (.iload 4, 2) := dk_21 4 (dk_at dksX1_brought_2 15 rfl rfl)
theorem dX1_brought_63 : decode cX1_brought 63 = .ok (.ishl, 1) := dk_120 (dk_at dksX1_brought_2 17 rfl rfl)
theorem dX1_brought_64 : decode cX1_brought 64 = .ok (.putfield 82, 3) := dk_181 0 82 (dk_at dksX1_brought_2 18 rfl rfl)
theorem dX1_brought_67 : decode cX1_brought 67 = .ok (.iconst 0, 1) := dk_3 (dk_at dksX1_brought_2 21 rfl rfl)
theorem dX1_brought_68 : decode cX1_brought 68 = .ok (.istore 5, 2) := dk_54 5 (dk_at dksX1_brought_2 22 rfl rfl)
theorem dX1_brought_70 : decode cX1_brought 70 = .ok (.iload 5, 2) := dk_21 5 (dk_at dksX1_brought_3 0 rfl rfl)
theorem dX1_brought_72 : decode cX1_brought 72 = .ok (.bipush 12, 2) := dk_16 12 (dk_at dksX1_brought_3 2 rfl rfl)
theorem dX1_brought_74 : decode cX1_brought 74 = .ok (.if_icmp .ge 20, 3) := dk_162 0 20 (dk_at dksX1_brought_3 4 rfl rfl)
theorem dX1_brought_77 : decode cX1_brought 77 = .ok (.aload_n 0, 1) := dk_42 (dk_at dksX1_brought_3 7 rfl rfl)
theorem dX1_brought_78 : decode cX1_brought 78 = .ok (.getfield 221, 3) := dk_180 0 221 (dk_at dksX1_brought_3 8 rfl rfl)
theorem dX1_brought_81 : decode cX1_brought 81 = .ok (.getfield 160, 3) := dk_180 0 160 (dk_at dksX1_brought_3 11 rfl rfl)
theorem dX1_brought_84 : decode cX1_brought 84 = .ok (.iload 5, 2) := dk_21 5 (dk_at dksX1_brought_3 14 rfl rfl)
theorem dX1_brought_86 : decode cX1_brought 86 = .ok (.iconst 0, 1) := dk_3 (dk_at dksX1_brought_3 16 rfl rfl)
theorem dX1_brought_87 : decode cX1_brought 87 = .ok (.bastore, 1) := dk_84 (dk_at dksX1_brought_3 17 rfl rfl)
theorem dX1_brought_88 : decode cX1_brought 88 = .ok (.iinc 5 1, 3) := dk_132 5 1 (dk_at dksX1_brought_3 18 rfl rfl)
theorem dX1_brought_91 : decode cX1_brought 91 = .ok (.goto (-21), 3) := dk_167 255 235 (dk_at dksX1_brought_3 21 rfl rfl)
theorem dX1_brought_94 : decode cX1_brought 94 = .ok (.aload_n 0, 1) := dk_42 (dk_at dksX1_brought_4 0 rfl rfl)
theorem dX1_brought_95 : decode cX1_brought 95 = .ok (.iload_n 2, 1) := dk_28 (dk_at dksX1_brought_4 1 rfl rfl)
theorem dX1_brought_96 : decode cX1_brought 96 = .ok (.invokevirtual 227, 3) := dk_182 0 227 (dk_at dksX1_brought_4 2 rfl rfl)
theorem dX1_brought_99 : decode cX1_brought 99 = .ok (.iload_n 3, 1) := dk_29 (dk_at dksX1_brought_4 5 rfl rfl)
theorem dX1_brought_100 : decode cX1_brought 100 = .ok (.aload_n 0, 1) := dk_42 (dk_at dksX1_brought_4 6 rfl rfl)
theorem dX1_brought_101 : decode cX1_brought 101 = .ok (.getfield 221, 3) := dk_180 0 221 (dk_at dksX1_brought_4 7 rfl rfl)
theorem dX1_brought_104 : decode cX1_brought 104 = .ok (.getfield 82, 3) := dk_180 0 82 (dk_at dksX1_brought_4 10 rfl rfl)
theorem dX1_brought_107 : decode cX1_brought 107 = .ok (.iload_n 1, 1) := dk_27 (dk_at dksX1_brought_4 13 rfl rfl)
theorem dX1_brought_108 : decode cX1_brought 108 = .ok (.if_icmp .ne 10, 3) := dk_160 0 10 (dk_at dksX1_brought_4 14 rfl rfl)
theorem dX1_brought_111 : decode cX1_brought 111 = .ok (.iconst 1, 1) := dk_4 (dk_at dksX1_brought_4 17 rfl rfl)
theorem dX1_brought_112 : decode cX1_brought 112 = .ok (.iload 4, 2) := dk_21 4 (dk_at dksX1_brought_4 18 rfl rfl)
theorem dX1_brought_114 : decode cX1_brought 114 = .ok (.ishl, 1) := dk_120 (dk_at dksX1_brought_4 20 rfl rfl)
theorem dX1_brought_115 : decode cX1_brought 115 = .ok (.goto 4, 3) := dk_167 0 4 (dk_at dksX1_brought_4 21 rfl rfl)
theorem dX1_brought_118 : decode cX1_brought 118 = .ok (.iconst 0, 1) := dk_3 (dk_at dksX1_brought_5 0 rfl rfl)
theorem dX1_brought_119 : decode cX1_brought 119 = .ok (.ior, 1) := dk_128 (dk_at dksX1_brought_5 1 rfl rfl)
theorem dX1_brought_120 : decode cX1_brought 120 = .ok (.istore_n 3, 1) := dk_62 (dk_at dksX1_brought_5 2 rfl rfl)
theorem dX1_brought_121 : decode cX1_brought 121 = .ok (.iinc 4 1, 3) := dk_132 4 1 (dk_at dksX1_brought_5 3 rfl rfl)
theorem dX1_brought_124 : decode cX1_brought 124 = .ok (.goto (-91), 3) := dk_167 255 165 (dk_at dksX1_brought_5 6 rfl rfl)
theorem dX1_brought_127 : decode cX1_brought 127 = .ok (.iload_n 3, 1) := dk_29 (dk_at dksX1_brought_5 9 rfl rfl)
theorem dX1_brought_128 : decode cX1_brought 128 = .ok (.ireturn, 1) := dk_172 (dk_at dksX1_brought_5 10 rfl rfl)
abbrev cX1_particular : ByteArray := prog_1_method_35_code
def yX1_particular : MethodName := ⟨RX1, "particular", "(I)I"⟩
def dkwX1_particular_4 : List UInt8 := [16, 252, 172]
abbrev dktX1_particular_4 : List UInt8 := dkwX1_particular_4 ++ []
def dkwX1_particular_3 : List UInt8 := [184, 0, 242, 42, 180, 0, 48, 180, 0, 82, 184, 0, 242, 163, 0, 5, 28, 172, 132, 2, 1, 167, 255, 177]
abbrev dktX1_particular_3 : List UInt8 := dkwX1_particular_3 ++ dktX1_particular_4
def dkwX1_particular_2 : List UInt8 := [180, 0, 176, 29, 28, 79, 132, 3, 1, 167, 255, 232, 42, 27, 182, 0, 227, 42, 180, 0, 221, 180, 0, 82]
abbrev dktX1_particular_2 : List UInt8 := dkwX1_particular_2 ++ dktX1_particular_3
def dkwX1_particular_1 : List UInt8 := [180, 0, 48, 182, 0, 111, 3, 62, 29, 42, 180, 0, 221, 180, 0, 215, 162, 0, 19, 42, 180, 0, 221]
abbrev dktX1_particular_1 : List UInt8 := dkwX1_particular_1 ++ dktX1_particular_2
def dkwX1_particular_0 : List UInt8 := [27, 184, 0, 230, 154, 0, 5, 2, 172, 3, 61, 28, 16, 9, 163, 0, 79, 42, 180, 0, 221, 42]
abbrev dktX1_particular_0 : List UInt8 := dkwX1_particular_0 ++ dktX1_particular_1
theorem dksX1_particular_0 : cX1_particular.data.toList.drop 0 = dktX1_particular_0 := by decide +kernel
theorem dksX1_particular_1 : cX1_particular.data.toList.drop 22 = dktX1_particular_1 := dk_seg dksX1_particular_0 22 rfl rfl
theorem dksX1_particular_2 : cX1_particular.data.toList.drop 45 = dktX1_particular_2 := dk_seg dksX1_particular_1 23 rfl rfl
theorem dksX1_particular_3 : cX1_particular.data.toList.drop 69 = dktX1_particular_3 := dk_seg dksX1_particular_2 24 rfl rfl
theorem dksX1_particular_4 : cX1_particular.data.toList.drop 93 = dktX1_particular_4 := dk_seg dksX1_particular_3 24 rfl rfl
theorem dX1_particular_0 : decode cX1_particular 0 = .ok (.iload_n 1, 1) := dk_27 (dk_at dksX1_particular_0 0 rfl rfl)
theorem dX1_particular_1 : decode cX1_particular 1 = .ok (.invokestatic 230, 3) := dk_184 0 230 (dk_at dksX1_particular_0 1 rfl rfl)
theorem dX1_particular_4 : decode cX1_particular 4 = .ok (.ifCond .ne 5, 3) := dk_154 0 5 (dk_at dksX1_particular_0 4 rfl rfl)
theorem dX1_particular_7 : decode cX1_particular 7 = .ok (.iconst (-1), 1) := dk_2 (dk_at dksX1_particular_0 7 rfl rfl)
theorem dX1_particular_8 : decode cX1_particular 8 = .ok (.ireturn, 1) := dk_172 (dk_at dksX1_particular_0 8 rfl rfl)
theorem dX1_particular_9 : decode cX1_particular 9 = .ok (.iconst 0, 1) := dk_3 (dk_at dksX1_particular_0 9 rfl rfl)
theorem dX1_particular_10 : decode cX1_particular 10 = .ok (.istore_n 2, 1) := dk_61 (dk_at dksX1_particular_0 10 rfl rfl)
theorem dX1_particular_11 : decode cX1_particular 11 = .ok (.iload_n 2, 1) := dk_28 (dk_at dksX1_particular_0 11 rfl rfl)
theorem dX1_particular_12 : decode cX1_particular 12 = .ok (.bipush 9, 2) := dk_16 9 (dk_at dksX1_particular_0 12 rfl rfl)
theorem dX1_particular_14 : decode cX1_particular 14 = .ok (.if_icmp .gt 79, 3) := dk_163 0 79 (dk_at dksX1_particular_0 14 rfl rfl)
theorem dX1_particular_17 : decode cX1_particular 17 = .ok (.aload_n 0, 1) := dk_42 (dk_at dksX1_particular_0 17 rfl rfl)
theorem dX1_particular_18 : decode cX1_particular 18 = .ok (.getfield 221, 3) := dk_180 0 221 (dk_at dksX1_particular_0 18 rfl rfl)
theorem dX1_particular_21 : decode cX1_particular 21 = .ok (.aload_n 0, 1) := dk_42 (dk_at dksX1_particular_0 21 rfl rfl)
theorem dX1_particular_22 : decode cX1_particular 22 = .ok (.getfield 48, 3) := dk_180 0 48 (dk_at dksX1_particular_1 0 rfl rfl)
theorem dX1_particular_25 : decode cX1_particular 25 = .ok (.invokevirtual 111, 3) := dk_182 0 111 (dk_at dksX1_particular_1 3 rfl rfl)
theorem dX1_particular_28 : decode cX1_particular 28 = .ok (.iconst 0, 1) := dk_3 (dk_at dksX1_particular_1 6 rfl rfl)
theorem dX1_particular_29 : decode cX1_particular 29 = .ok (.istore_n 3, 1) := dk_62 (dk_at dksX1_particular_1 7 rfl rfl)
theorem dX1_particular_30 : decode cX1_particular 30 = .ok (.iload_n 3, 1) := dk_29 (dk_at dksX1_particular_1 8 rfl rfl)
theorem dX1_particular_31 : decode cX1_particular 31 = .ok (.aload_n 0, 1) := dk_42 (dk_at dksX1_particular_1 9 rfl rfl)
theorem dX1_particular_32 : decode cX1_particular 32 = .ok (.getfield 221, 3) := dk_180 0 221 (dk_at dksX1_particular_1 10 rfl rfl)
theorem dX1_particular_35 : decode cX1_particular 35 = .ok (.getfield 215, 3) := dk_180 0 215 (dk_at dksX1_particular_1 13 rfl rfl)
theorem dX1_particular_38 : decode cX1_particular 38 = .ok (.if_icmp .ge 19, 3) := dk_162 0 19 (dk_at dksX1_particular_1 16 rfl rfl)
theorem dX1_particular_41 : decode cX1_particular 41 = .ok (.aload_n 0, 1) := dk_42 (dk_at dksX1_particular_1 19 rfl rfl)
theorem dX1_particular_42 : decode cX1_particular 42 = .ok (.getfield 221, 3) := dk_180 0 221 (dk_at dksX1_particular_1 20 rfl rfl)
theorem dX1_particular_45 : decode cX1_particular 45 = .ok (.getfield 176, 3) := dk_180 0 176 (dk_at dksX1_particular_2 0 rfl rfl)
theorem dX1_particular_48 : decode cX1_particular 48 = .ok (.iload_n 3, 1) := dk_29 (dk_at dksX1_particular_2 3 rfl rfl)
theorem dX1_particular_49 : decode cX1_particular 49 = .ok (.iload_n 2, 1) := dk_28 (dk_at dksX1_particular_2 4 rfl rfl)
theorem dX1_particular_50 : decode cX1_particular 50 = .ok (.iastore, 1) := dk_79 (dk_at dksX1_particular_2 5 rfl rfl)
theorem dX1_particular_51 : decode cX1_particular 51 = .ok (.iinc 3 1, 3) := dk_132 3 1 (dk_at dksX1_particular_2 6 rfl rfl)
theorem dX1_particular_54 : decode cX1_particular 54 = .ok (.goto (-24), 3) := dk_167 255 232 (dk_at dksX1_particular_2 9 rfl rfl)
theorem dX1_particular_57 : decode cX1_particular 57 = .ok (.aload_n 0, 1) := dk_42 (dk_at dksX1_particular_2 12 rfl rfl)
theorem dX1_particular_58 : decode cX1_particular 58 = .ok (.iload_n 1, 1) := dk_27 (dk_at dksX1_particular_2 13 rfl rfl)
theorem dX1_particular_59 : decode cX1_particular 59 = .ok (.invokevirtual 227, 3) := dk_182 0 227 (dk_at dksX1_particular_2 14 rfl rfl)
theorem dX1_particular_62 : decode cX1_particular 62 = .ok (.aload_n 0, 1) := dk_42 (dk_at dksX1_particular_2 17 rfl rfl)
theorem dX1_particular_63 : decode cX1_particular 63 = .ok (.getfield 221, 3) := dk_180 0 221 (dk_at dksX1_particular_2 18 rfl rfl)
theorem dX1_particular_66 : decode cX1_particular 66 = .ok (.getfield 82, 3) := dk_180 0 82 (dk_at dksX1_particular_2 21 rfl rfl)
theorem dX1_particular_69 : decode cX1_particular 69 = .ok (.invokestatic 242, 3) := dk_184 0 242 (dk_at dksX1_particular_3 0 rfl rfl)
theorem dX1_particular_72 : decode cX1_particular 72 = .ok (.aload_n 0, 1) := dk_42 (dk_at dksX1_particular_3 3 rfl rfl)
theorem dX1_particular_73 : decode cX1_particular 73 = .ok (.getfield 48, 3) := dk_180 0 48 (dk_at dksX1_particular_3 4 rfl rfl)
theorem dX1_particular_76 : decode cX1_particular 76 = .ok (.getfield 82, 3) := dk_180 0 82 (dk_at dksX1_particular_3 7 rfl rfl)
theorem dX1_particular_79 : decode cX1_particular 79 = .ok (.invokestatic 242, 3) := dk_184 0 242 (dk_at dksX1_particular_3 10 rfl rfl)
theorem dX1_particular_82 : decode cX1_particular 82 = .ok (.if_icmp .gt 5, 3) := dk_163 0 5 (dk_at dksX1_particular_3 13 rfl rfl)
theorem dX1_particular_85 : decode cX1_particular 85 = .ok (.iload_n 2, 1) := dk_28 (dk_at dksX1_particular_3 16 rfl rfl)
theorem dX1_particular_86 : decode cX1_particular 86 = .ok (.ireturn, 1) := dk_172 (dk_at dksX1_particular_3 17 rfl rfl)
theorem dX1_particular_87 : decode cX1_particular 87 = .ok (.iinc 2 1, 3) := dk_132 2 1 (dk_at dksX1_particular_3 18 rfl rfl)
theorem dX1_particular_90 : decode cX1_particular 90 = .ok (.goto (-79), 3) := dk_167 255 177 (dk_at dksX1_particular_3 21 rfl rfl)
theorem dX1_particular_93 : decode cX1_particular 93 = .ok (.bipush (-4), 2) := dk_16 252 (dk_at dksX1_particular_4 0 rfl rfl)
theorem dX1_particular_95 : decode cX1_particular 95 = .ok (.ireturn, 1) := dk_172 (dk_at dksX1_particular_4 2 rfl rfl)
abbrev cX1_bits : ByteArray := prog_1_method_3_code
def yX1_bits : MethodName := ⟨RX1, "bits", "(I)I"⟩
def dkwX1_bits_0 : List UInt8 := [3, 60, 26, 61, 28, 153, 0, 15, 132, 1, 1, 28, 28, 4, 100, 126, 61, 167, 255, 243, 27, 172]
abbrev dktX1_bits_0 : List UInt8 := dkwX1_bits_0 ++ []
theorem dksX1_bits_0 : cX1_bits.data.toList.drop 0 = dktX1_bits_0 := by decide +kernel
theorem dX1_bits_0 : decode cX1_bits 0 = .ok (.iconst 0, 1) := dk_3 (dk_at dksX1_bits_0 0 rfl rfl)
theorem dX1_bits_1 : decode cX1_bits 1 = .ok (.istore_n 1, 1) := dk_60 (dk_at dksX1_bits_0 1 rfl rfl)
theorem dX1_bits_2 : decode cX1_bits 2 = .ok (.iload_n 0, 1) := dk_26 (dk_at dksX1_bits_0 2 rfl rfl)
theorem dX1_bits_3 : decode cX1_bits 3 = .ok (.istore_n 2, 1) := dk_61 (dk_at dksX1_bits_0 3 rfl rfl)
theorem dX1_bits_4 : decode cX1_bits 4 = .ok (.iload_n 2, 1) := dk_28 (dk_at dksX1_bits_0 4 rfl rfl)
theorem dX1_bits_5 : decode cX1_bits 5 = .ok (.ifCond .eq 15, 3) := dk_153 0 15 (dk_at dksX1_bits_0 5 rfl rfl)
theorem dX1_bits_8 : decode cX1_bits 8 = .ok (.iinc 1 1, 3) := dk_132 1 1 (dk_at dksX1_bits_0 8 rfl rfl)
theorem dX1_bits_11 : decode cX1_bits 11 = .ok (.iload_n 2, 1) := dk_28 (dk_at dksX1_bits_0 11 rfl rfl)
theorem dX1_bits_12 : decode cX1_bits 12 = .ok (.iload_n 2, 1) := dk_28 (dk_at dksX1_bits_0 12 rfl rfl)
theorem dX1_bits_13 : decode cX1_bits 13 = .ok (.iconst 1, 1) := dk_4 (dk_at dksX1_bits_0 13 rfl rfl)
theorem dX1_bits_14 : decode cX1_bits 14 = .ok (.isub, 1) := dk_100 (dk_at dksX1_bits_0 14 rfl rfl)
theorem dX1_bits_15 : decode cX1_bits 15 = .ok (.iand, 1) := dk_126 (dk_at dksX1_bits_0 15 rfl rfl)
theorem dX1_bits_16 : decode cX1_bits 16 = .ok (.istore_n 2, 1) := dk_61 (dk_at dksX1_bits_0 16 rfl rfl)
theorem dX1_bits_17 : decode cX1_bits 17 = .ok (.goto (-13), 3) := dk_167 255 243 (dk_at dksX1_bits_0 17 rfl rfl)
theorem dX1_bits_20 : decode cX1_bits 20 = .ok (.iload_n 1, 1) := dk_27 (dk_at dksX1_bits_0 20 rfl rfl)
theorem dX1_bits_21 : decode cX1_bits 21 = .ok (.ireturn, 1) := dk_172 (dk_at dksX1_bits_0 21 rfl rfl)
abbrev cX1_mark : ByteArray := prog_1_method_36_code
def yX1_mark : MethodName := ⟨RX1, "mark", "(I)I"⟩
def dkwX1_mark_5 : List UInt8 := [172]
abbrev dktX1_mark_5 : List UInt8 := dkwX1_mark_5 ++ []
def dkwX1_mark_4 : List UInt8 := [161, 0, 6, 167, 0, 14, 21, 4, 61, 42, 180, 0, 221, 180, 0, 236, 62, 132, 4, 1, 167, 255, 170, 28]
abbrev dktX1_mark_4 : List UInt8 := dkwX1_mark_4 ++ dktX1_mark_5
def dkwX1_mark_3 : List UInt8 := [21, 4, 50, 180, 0, 148, 183, 0, 15, 83, 42, 27, 182, 0, 227, 42, 180, 0, 221, 180, 0, 236, 29]
abbrev dktX1_mark_3 : List UInt8 := dkwX1_mark_3 ++ dktX1_mark_4
def dkwX1_mark_2 : List UInt8 := [182, 0, 111, 42, 180, 0, 221, 180, 0, 141, 21, 4, 187, 0, 13, 89, 42, 180, 0, 48, 180, 0, 141]
abbrev dktX1_mark_2 : List UInt8 := dkwX1_mark_2 ++ dktX1_mark_3
def dkwX1_mark_1 : List UInt8 := [62, 3, 54, 4, 21, 4, 42, 180, 0, 48, 180, 0, 186, 162, 0, 80, 42, 180, 0, 221, 42, 180, 0, 48]
abbrev dktX1_mark_1 : List UInt8 := dkwX1_mark_1 ++ dktX1_mark_2
def dkwX1_mark_0 : List UInt8 := [27, 184, 0, 230, 154, 0, 5, 2, 172, 42, 27, 182, 0, 233, 16, 252, 61, 42, 180, 0, 221, 180, 0, 236]
abbrev dktX1_mark_0 : List UInt8 := dkwX1_mark_0 ++ dktX1_mark_1
theorem dksX1_mark_0 : cX1_mark.data.toList.drop 0 = dktX1_mark_0 := by decide +kernel
theorem dksX1_mark_1 : cX1_mark.data.toList.drop 24 = dktX1_mark_1 := dk_seg dksX1_mark_0 24 rfl rfl
theorem dksX1_mark_2 : cX1_mark.data.toList.drop 48 = dktX1_mark_2 := dk_seg dksX1_mark_1 24 rfl rfl
theorem dksX1_mark_3 : cX1_mark.data.toList.drop 71 = dktX1_mark_3 := dk_seg dksX1_mark_2 23 rfl rfl
theorem dksX1_mark_4 : cX1_mark.data.toList.drop 94 = dktX1_mark_4 := dk_seg dksX1_mark_3 23 rfl rfl
theorem dksX1_mark_5 : cX1_mark.data.toList.drop 118 = dktX1_mark_5 := dk_seg dksX1_mark_4 24 rfl rfl
theorem dX1_mark_0 : decode cX1_mark 0 = .ok (.iload_n 1, 1) := dk_27 (dk_at dksX1_mark_0 0 rfl rfl)
theorem dX1_mark_1 : decode cX1_mark 1 = .ok (.invokestatic 230, 3) := dk_184 0 230 (dk_at dksX1_mark_0 1 rfl rfl)
theorem dX1_mark_4 : decode cX1_mark 4 = .ok (.ifCond .ne 5, 3) := dk_154 0 5 (dk_at dksX1_mark_0 4 rfl rfl)
theorem dX1_mark_7 : decode cX1_mark 7 = .ok (.iconst (-1), 1) := dk_2 (dk_at dksX1_mark_0 7 rfl rfl)
theorem dX1_mark_8 : decode cX1_mark 8 = .ok (.ireturn, 1) := dk_172 (dk_at dksX1_mark_0 8 rfl rfl)
theorem dX1_mark_9 : decode cX1_mark 9 = .ok (.aload_n 0, 1) := dk_42 (dk_at dksX1_mark_0 9 rfl rfl)
theorem dX1_mark_10 : decode cX1_mark 10 = .ok (.iload_n 1, 1) := dk_27 (dk_at dksX1_mark_0 10 rfl rfl)
theorem dX1_mark_11 : decode cX1_mark 11 = .ok (.invokevirtual 233, 3) := dk_182 0 233 (dk_at dksX1_mark_0 11 rfl rfl)
theorem dX1_mark_14 : decode cX1_mark 14 = .ok (.bipush (-4), 2) := dk_16 252 (dk_at dksX1_mark_0 14 rfl rfl)
theorem dX1_mark_16 : decode cX1_mark 16 = .ok (.istore_n 2, 1) := dk_61 (dk_at dksX1_mark_0 16 rfl rfl)
theorem dX1_mark_17 : decode cX1_mark 17 = .ok (.aload_n 0, 1) := dk_42 (dk_at dksX1_mark_0 17 rfl rfl)
theorem dX1_mark_18 : decode cX1_mark 18 = .ok (.getfield 221, 3) := dk_180 0 221 (dk_at dksX1_mark_0 18 rfl rfl)
theorem dX1_mark_21 : decode cX1_mark 21 = .ok (.getfield 236, 3) := dk_180 0 236 (dk_at dksX1_mark_0 21 rfl rfl)
theorem dX1_mark_24 : decode cX1_mark 24 = .ok (.istore_n 3, 1) := dk_62 (dk_at dksX1_mark_1 0 rfl rfl)
theorem dX1_mark_25 : decode cX1_mark 25 = .ok (.iconst 0, 1) := dk_3 (dk_at dksX1_mark_1 1 rfl rfl)
theorem dX1_mark_26 : decode cX1_mark 26 = .ok (.istore 4, 2) := dk_54 4 (dk_at dksX1_mark_1 2 rfl rfl)
theorem dX1_mark_28 : decode cX1_mark 28 = .ok (.iload 4, 2) := dk_21 4 (dk_at dksX1_mark_1 4 rfl rfl)
theorem dX1_mark_30 : decode cX1_mark 30 = .ok (.aload_n 0, 1) := dk_42 (dk_at dksX1_mark_1 6 rfl rfl)
theorem dX1_mark_31 : decode cX1_mark 31 = .ok (.getfield 48, 3) := dk_180 0 48 (dk_at dksX1_mark_1 7 rfl rfl)
theorem dX1_mark_34 : decode cX1_mark 34 = .ok (.getfield 186, 3) := dk_180 0 186 (dk_at dksX1_mark_1 10 rfl rfl)
theorem dX1_mark_37 : decode cX1_mark 37 = .ok (.if_icmp .ge 80, 3) := dk_162 0 80 (dk_at dksX1_mark_1 13 rfl rfl)
theorem dX1_mark_40 : decode cX1_mark 40 = .ok (.aload_n 0, 1) := dk_42 (dk_at dksX1_mark_1 16 rfl rfl)
theorem dX1_mark_41 : decode cX1_mark 41 = .ok (.getfield 221, 3) := dk_180 0 221 (dk_at dksX1_mark_1 17 rfl rfl)
theorem dX1_mark_44 : decode cX1_mark 44 = .ok (.aload_n 0, 1) := dk_42 (dk_at dksX1_mark_1 20 rfl rfl)
theorem dX1_mark_45 : decode cX1_mark 45 = .ok (.getfield 48, 3) := dk_180 0 48 (dk_at dksX1_mark_1 21 rfl rfl)
theorem dX1_mark_48 : decode cX1_mark 48 = .ok (.invokevirtual 111, 3) := dk_182 0 111 (dk_at dksX1_mark_2 0 rfl rfl)
theorem dX1_mark_51 : decode cX1_mark 51 = .ok (.aload_n 0, 1) := dk_42 (dk_at dksX1_mark_2 3 rfl rfl)
theorem dX1_mark_52 : decode cX1_mark 52 = .ok (.getfield 221, 3) := dk_180 0 221 (dk_at dksX1_mark_2 4 rfl rfl)
theorem dX1_mark_55 : decode cX1_mark 55 = .ok (.getfield 141, 3) := dk_180 0 141 (dk_at dksX1_mark_2 7 rfl rfl)
theorem dX1_mark_58 : decode cX1_mark 58 = .ok (.iload 4, 2) := dk_21 4 (dk_at dksX1_mark_2 10 rfl rfl)
theorem dX1_mark_60 : decode cX1_mark 60 = .ok (.new 13, 3) := dk_187 0 13 (dk_at dksX1_mark_2 12 rfl rfl)
theorem dX1_mark_63 : decode cX1_mark 63 = .ok (.dup, 1) := dk_89 (dk_at dksX1_mark_2 15 rfl rfl)
theorem dX1_mark_64 : decode cX1_mark 64 = .ok (.aload_n 0, 1) := dk_42 (dk_at dksX1_mark_2 16 rfl rfl)
theorem dX1_mark_65 : decode cX1_mark 65 = .ok (.getfield 48, 3) := dk_180 0 48 (dk_at dksX1_mark_2 17 rfl rfl)
theorem dX1_mark_68 : decode cX1_mark 68 = .ok (.getfield 141, 3) := dk_180 0 141 (dk_at dksX1_mark_2 20 rfl rfl)
theorem dX1_mark_71 : decode cX1_mark 71 = .ok (.iload 4, 2) := dk_21 4 (dk_at dksX1_mark_3 0 rfl rfl)
theorem dX1_mark_73 : decode cX1_mark 73 = .ok (.aaload, 1) := dk_50 (dk_at dksX1_mark_3 2 rfl rfl)
theorem dX1_mark_74 : decode cX1_mark 74 = .ok (.getfield 148, 3) := dk_180 0 148 (dk_at dksX1_mark_3 3 rfl rfl)
theorem dX1_mark_77 : decode cX1_mark 77 = .ok (.invokespecial 15, 3) := dk_183 0 15 (dk_at dksX1_mark_3 6 rfl rfl)
theorem dX1_mark_80 : decode cX1_mark 80 = .ok (.aastore, 1) := dk_83 (dk_at dksX1_mark_3 9 rfl rfl)
theorem dX1_mark_81 : decode cX1_mark 81 = .ok (.aload_n 0, 1) := dk_42 (dk_at dksX1_mark_3 10 rfl rfl)
theorem dX1_mark_82 : decode cX1_mark 82 = .ok (.iload_n 1, 1) := dk_27 (dk_at dksX1_mark_3 11 rfl rfl)
theorem dX1_mark_83 : decode cX1_mark 83 = .ok (.invokevirtual 227, 3) := dk_182 0 227 (dk_at dksX1_mark_3 12 rfl rfl)
theorem dX1_mark_86 : decode cX1_mark 86 = .ok (.aload_n 0, 1) := dk_42 (dk_at dksX1_mark_3 15 rfl rfl)
theorem dX1_mark_87 : decode cX1_mark 87 = .ok (.getfield 221, 3) := dk_180 0 221 (dk_at dksX1_mark_3 16 rfl rfl)
theorem dX1_mark_90 : decode cX1_mark 90 = .ok (.getfield 236, 3) := dk_180 0 236 (dk_at dksX1_mark_3 19 rfl rfl)
theorem dX1_mark_93 : decode cX1_mark 93 = .ok (.iload_n 3, 1) := dk_29 (dk_at dksX1_mark_3 22 rfl rfl)
theorem dX1_mark_94 : decode cX1_mark 94 = .ok (.if_icmp .lt 6, 3) := dk_161 0 6 (dk_at dksX1_mark_4 0 rfl rfl)
theorem dX1_mark_97 : decode cX1_mark 97 = .ok (.goto 14, 3) := dk_167 0 14 (dk_at dksX1_mark_4 3 rfl rfl)
theorem dX1_mark_100 : decode cX1_mark 100 = .ok (.iload 4, 2) := dk_21 4 (dk_at dksX1_mark_4 6 rfl rfl)
theorem dX1_mark_102 : decode cX1_mark 102 = .ok (.istore_n 2, 1) := dk_61 (dk_at dksX1_mark_4 8 rfl rfl)
theorem dX1_mark_103 : decode cX1_mark 103 = .ok (.aload_n 0, 1) := dk_42 (dk_at dksX1_mark_4 9 rfl rfl)
theorem dX1_mark_104 : decode cX1_mark 104 = .ok (.getfield 221, 3) := dk_180 0 221 (dk_at dksX1_mark_4 10 rfl rfl)
theorem dX1_mark_107 : decode cX1_mark 107 = .ok (.getfield 236, 3) := dk_180 0 236 (dk_at dksX1_mark_4 13 rfl rfl)
theorem dX1_mark_110 : decode cX1_mark 110 = .ok (.istore_n 3, 1) := dk_62 (dk_at dksX1_mark_4 16 rfl rfl)
theorem dX1_mark_111 : decode cX1_mark 111 = .ok (.iinc 4 1, 3) := dk_132 4 1 (dk_at dksX1_mark_4 17 rfl rfl)
theorem dX1_mark_114 : decode cX1_mark 114 = .ok (.goto (-86), 3) := dk_167 255 170 (dk_at dksX1_mark_4 20 rfl rfl)
theorem dX1_mark_117 : decode cX1_mark 117 = .ok (.iload_n 2, 1) := dk_28 (dk_at dksX1_mark_4 23 rfl rfl)
theorem dX1_mark_118 : decode cX1_mark 118 = .ok (.ireturn, 1) := dk_172 (dk_at dksX1_mark_5 0 rfl rfl)
abbrev cX1_close : ByteArray := prog_1_method_37_code
def yX1_close : MethodName := ⟨RX1, "close", "(I)I"⟩
def dkwX1_close_3 : List UInt8 := [167, 0, 14, 21, 4, 61, 42, 180, 0, 221, 180, 0, 239, 62, 132, 4, 1, 167, 255, 196, 28, 172]
abbrev dktX1_close_3 : List UInt8 := dkwX1_close_3 ++ []
def dkwX1_close_2 : List UInt8 := [180, 0, 221, 21, 4, 181, 0, 245, 42, 27, 182, 0, 227, 42, 180, 0, 221, 180, 0, 239, 29, 161, 0, 6]
abbrev dktX1_close_2 : List UInt8 := dkwX1_close_2 ++ dktX1_close_3
def dkwX1_close_1 : List UInt8 := [62, 3, 54, 4, 21, 4, 16, 6, 162, 0, 59, 42, 180, 0, 221, 42, 180, 0, 48, 182, 0, 111, 42]
abbrev dktX1_close_1 : List UInt8 := dkwX1_close_1 ++ dktX1_close_2
def dkwX1_close_0 : List UInt8 := [27, 184, 0, 230, 154, 0, 5, 2, 172, 42, 27, 182, 0, 233, 16, 252, 61, 42, 180, 0, 221, 180, 0, 239]
abbrev dktX1_close_0 : List UInt8 := dkwX1_close_0 ++ dktX1_close_1
theorem dksX1_close_0 : cX1_close.data.toList.drop 0 = dktX1_close_0 := by decide +kernel
theorem dksX1_close_1 : cX1_close.data.toList.drop 24 = dktX1_close_1 := dk_seg dksX1_close_0 24 rfl rfl
theorem dksX1_close_2 : cX1_close.data.toList.drop 47 = dktX1_close_2 := dk_seg dksX1_close_1 23 rfl rfl
theorem dksX1_close_3 : cX1_close.data.toList.drop 71 = dktX1_close_3 := dk_seg dksX1_close_2 24 rfl rfl
theorem dX1_close_0 : decode cX1_close 0 = .ok (.iload_n 1, 1) := dk_27 (dk_at dksX1_close_0 0 rfl rfl)
theorem dX1_close_1 : decode cX1_close 1 = .ok (.invokestatic 230, 3) := dk_184 0 230 (dk_at dksX1_close_0 1 rfl rfl)
theorem dX1_close_4 : decode cX1_close 4 = .ok (.ifCond .ne 5, 3) := dk_154 0 5 (dk_at dksX1_close_0 4 rfl rfl)
theorem dX1_close_7 : decode cX1_close 7 = .ok (.iconst (-1), 1) := dk_2 (dk_at dksX1_close_0 7 rfl rfl)
theorem dX1_close_8 : decode cX1_close 8 = .ok (.ireturn, 1) := dk_172 (dk_at dksX1_close_0 8 rfl rfl)
theorem dX1_close_9 : decode cX1_close 9 = .ok (.aload_n 0, 1) := dk_42 (dk_at dksX1_close_0 9 rfl rfl)
theorem dX1_close_10 : decode cX1_close 10 = .ok (.iload_n 1, 1) := dk_27 (dk_at dksX1_close_0 10 rfl rfl)
theorem dX1_close_11 : decode cX1_close 11 = .ok (.invokevirtual 233, 3) := dk_182 0 233 (dk_at dksX1_close_0 11 rfl rfl)
theorem dX1_close_14 : decode cX1_close 14 = .ok (.bipush (-4), 2) := dk_16 252 (dk_at dksX1_close_0 14 rfl rfl)
theorem dX1_close_16 : decode cX1_close 16 = .ok (.istore_n 2, 1) := dk_61 (dk_at dksX1_close_0 16 rfl rfl)
theorem dX1_close_17 : decode cX1_close 17 = .ok (.aload_n 0, 1) := dk_42 (dk_at dksX1_close_0 17 rfl rfl)
theorem dX1_close_18 : decode cX1_close 18 = .ok (.getfield 221, 3) := dk_180 0 221 (dk_at dksX1_close_0 18 rfl rfl)
theorem dX1_close_21 : decode cX1_close 21 = .ok (.getfield 239, 3) := dk_180 0 239 (dk_at dksX1_close_0 21 rfl rfl)
theorem dX1_close_24 : decode cX1_close 24 = .ok (.istore_n 3, 1) := dk_62 (dk_at dksX1_close_1 0 rfl rfl)
theorem dX1_close_25 : decode cX1_close 25 = .ok (.iconst 0, 1) := dk_3 (dk_at dksX1_close_1 1 rfl rfl)
theorem dX1_close_26 : decode cX1_close 26 = .ok (.istore 4, 2) := dk_54 4 (dk_at dksX1_close_1 2 rfl rfl)
theorem dX1_close_28 : decode cX1_close 28 = .ok (.iload 4, 2) := dk_21 4 (dk_at dksX1_close_1 4 rfl rfl)
theorem dX1_close_30 : decode cX1_close 30 = .ok (.bipush 6, 2) := dk_16 6 (dk_at dksX1_close_1 6 rfl rfl)
theorem dX1_close_32 : decode cX1_close 32 = .ok (.if_icmp .ge 59, 3) := dk_162 0 59 (dk_at dksX1_close_1 8 rfl rfl)
theorem dX1_close_35 : decode cX1_close 35 = .ok (.aload_n 0, 1) := dk_42 (dk_at dksX1_close_1 11 rfl rfl)
theorem dX1_close_36 : decode cX1_close 36 = .ok (.getfield 221, 3) := dk_180 0 221 (dk_at dksX1_close_1 12 rfl rfl)
theorem dX1_close_39 : decode cX1_close 39 = .ok (.aload_n 0, 1) := dk_42 (dk_at dksX1_close_1 15 rfl rfl)
theorem dX1_close_40 : decode cX1_close 40 = .ok (.getfield 48, 3) := dk_180 0 48 (dk_at dksX1_close_1 16 rfl rfl)
theorem dX1_close_43 : decode cX1_close 43 = .ok (.invokevirtual 111, 3) := dk_182 0 111 (dk_at dksX1_close_1 19 rfl rfl)
theorem dX1_close_46 : decode cX1_close 46 = .ok (.aload_n 0, 1) := dk_42 (dk_at dksX1_close_1 22 rfl rfl)
theorem dX1_close_47 : decode cX1_close 47 = .ok (.getfield 221, 3) := dk_180 0 221 (dk_at dksX1_close_2 0 rfl rfl)
theorem dX1_close_50 : decode cX1_close 50 = .ok (.iload 4, 2) := dk_21 4 (dk_at dksX1_close_2 3 rfl rfl)
theorem dX1_close_52 : decode cX1_close 52 = .ok (.putfield 245, 3) := dk_181 0 245 (dk_at dksX1_close_2 5 rfl rfl)
theorem dX1_close_55 : decode cX1_close 55 = .ok (.aload_n 0, 1) := dk_42 (dk_at dksX1_close_2 8 rfl rfl)
theorem dX1_close_56 : decode cX1_close 56 = .ok (.iload_n 1, 1) := dk_27 (dk_at dksX1_close_2 9 rfl rfl)
theorem dX1_close_57 : decode cX1_close 57 = .ok (.invokevirtual 227, 3) := dk_182 0 227 (dk_at dksX1_close_2 10 rfl rfl)
theorem dX1_close_60 : decode cX1_close 60 = .ok (.aload_n 0, 1) := dk_42 (dk_at dksX1_close_2 13 rfl rfl)
theorem dX1_close_61 : decode cX1_close 61 = .ok (.getfield 221, 3) := dk_180 0 221 (dk_at dksX1_close_2 14 rfl rfl)
theorem dX1_close_64 : decode cX1_close 64 = .ok (.getfield 239, 3) := dk_180 0 239 (dk_at dksX1_close_2 17 rfl rfl)
theorem dX1_close_67 : decode cX1_close 67 = .ok (.iload_n 3, 1) := dk_29 (dk_at dksX1_close_2 20 rfl rfl)
theorem dX1_close_68 : decode cX1_close 68 = .ok (.if_icmp .lt 6, 3) := dk_161 0 6 (dk_at dksX1_close_2 21 rfl rfl)
theorem dX1_close_71 : decode cX1_close 71 = .ok (.goto 14, 3) := dk_167 0 14 (dk_at dksX1_close_3 0 rfl rfl)
theorem dX1_close_74 : decode cX1_close 74 = .ok (.iload 4, 2) := dk_21 4 (dk_at dksX1_close_3 3 rfl rfl)
theorem dX1_close_76 : decode cX1_close 76 = .ok (.istore_n 2, 1) := dk_61 (dk_at dksX1_close_3 5 rfl rfl)
theorem dX1_close_77 : decode cX1_close 77 = .ok (.aload_n 0, 1) := dk_42 (dk_at dksX1_close_3 6 rfl rfl)
theorem dX1_close_78 : decode cX1_close 78 = .ok (.getfield 221, 3) := dk_180 0 221 (dk_at dksX1_close_3 7 rfl rfl)
theorem dX1_close_81 : decode cX1_close 81 = .ok (.getfield 239, 3) := dk_180 0 239 (dk_at dksX1_close_3 10 rfl rfl)
theorem dX1_close_84 : decode cX1_close 84 = .ok (.istore_n 3, 1) := dk_62 (dk_at dksX1_close_3 13 rfl rfl)
theorem dX1_close_85 : decode cX1_close 85 = .ok (.iinc 4 1, 3) := dk_132 4 1 (dk_at dksX1_close_3 14 rfl rfl)
theorem dX1_close_88 : decode cX1_close 88 = .ok (.goto (-60), 3) := dk_167 255 196 (dk_at dksX1_close_3 17 rfl rfl)
theorem dX1_close_91 : decode cX1_close 91 = .ok (.iload_n 2, 1) := dk_28 (dk_at dksX1_close_3 20 rfl rfl)
theorem dX1_close_92 : decode cX1_close 92 = .ok (.ireturn, 1) := dk_172 (dk_at dksX1_close_3 21 rfl rfl)
abbrev cX1_driver : ByteArray := prog_1_method_38_code
def yX1_driver : MethodName := ⟨RX1, "driver", "(I)I"⟩
def dkwX1_driver_2 : List UInt8 := [180, 0, 221, 180, 0, 183, 28, 46, 162, 0, 5, 29, 61, 132, 3, 1, 167, 255, 213, 28, 172]
abbrev dktX1_driver_2 : List UInt8 := dkwX1_driver_2 ++ []
def dkwX1_driver_1 : List UInt8 := [180, 0, 215, 162, 0, 38, 28, 16, 252, 159, 0, 24, 42, 180, 0, 221, 180, 0, 183, 29, 46, 42]
abbrev dktX1_driver_1 : List UInt8 := dkwX1_driver_1 ++ dktX1_driver_2
def dkwX1_driver_0 : List UInt8 := [27, 184, 0, 230, 154, 0, 5, 2, 172, 42, 27, 182, 0, 233, 16, 252, 61, 3, 62, 29, 42, 180, 0, 221]
abbrev dktX1_driver_0 : List UInt8 := dkwX1_driver_0 ++ dktX1_driver_1
theorem dksX1_driver_0 : cX1_driver.data.toList.drop 0 = dktX1_driver_0 := by decide +kernel
theorem dksX1_driver_1 : cX1_driver.data.toList.drop 24 = dktX1_driver_1 := dk_seg dksX1_driver_0 24 rfl rfl
theorem dksX1_driver_2 : cX1_driver.data.toList.drop 46 = dktX1_driver_2 := dk_seg dksX1_driver_1 22 rfl rfl
theorem dX1_driver_0 : decode cX1_driver 0 = .ok (.iload_n 1, 1) := dk_27 (dk_at dksX1_driver_0 0 rfl rfl)
theorem dX1_driver_1 : decode cX1_driver 1 = .ok (.invokestatic 230, 3) := dk_184 0 230 (dk_at dksX1_driver_0 1 rfl rfl)
theorem dX1_driver_4 : decode cX1_driver 4 = .ok (.ifCond .ne 5, 3) := dk_154 0 5 (dk_at dksX1_driver_0 4 rfl rfl)
theorem dX1_driver_7 : decode cX1_driver 7 = .ok (.iconst (-1), 1) := dk_2 (dk_at dksX1_driver_0 7 rfl rfl)
theorem dX1_driver_8 : decode cX1_driver 8 = .ok (.ireturn, 1) := dk_172 (dk_at dksX1_driver_0 8 rfl rfl)
theorem dX1_driver_9 : decode cX1_driver 9 = .ok (.aload_n 0, 1) := dk_42 (dk_at dksX1_driver_0 9 rfl rfl)
theorem dX1_driver_10 : decode cX1_driver 10 = .ok (.iload_n 1, 1) := dk_27 (dk_at dksX1_driver_0 10 rfl rfl)
theorem dX1_driver_11 : decode cX1_driver 11 = .ok (.invokevirtual 233, 3) := dk_182 0 233 (dk_at dksX1_driver_0 11 rfl rfl)
theorem dX1_driver_14 : decode cX1_driver 14 = .ok (.bipush (-4), 2) := dk_16 252 (dk_at dksX1_driver_0 14 rfl rfl)
theorem dX1_driver_16 : decode cX1_driver 16 = .ok (.istore_n 2, 1) := dk_61 (dk_at dksX1_driver_0 16 rfl rfl)
theorem dX1_driver_17 : decode cX1_driver 17 = .ok (.iconst 0, 1) := dk_3 (dk_at dksX1_driver_0 17 rfl rfl)
theorem dX1_driver_18 : decode cX1_driver 18 = .ok (.istore_n 3, 1) := dk_62 (dk_at dksX1_driver_0 18 rfl rfl)
theorem dX1_driver_19 : decode cX1_driver 19 = .ok (.iload_n 3, 1) := dk_29 (dk_at dksX1_driver_0 19 rfl rfl)
theorem dX1_driver_20 : decode cX1_driver 20 = .ok (.aload_n 0, 1) := dk_42 (dk_at dksX1_driver_0 20 rfl rfl)
theorem dX1_driver_21 : decode cX1_driver 21 = .ok (.getfield 221, 3) := dk_180 0 221 (dk_at dksX1_driver_0 21 rfl rfl)
theorem dX1_driver_24 : decode cX1_driver 24 = .ok (.getfield 215, 3) := dk_180 0 215 (dk_at dksX1_driver_1 0 rfl rfl)
theorem dX1_driver_27 : decode cX1_driver 27 = .ok (.if_icmp .ge 38, 3) := dk_162 0 38 (dk_at dksX1_driver_1 3 rfl rfl)
theorem dX1_driver_30 : decode cX1_driver 30 = .ok (.iload_n 2, 1) := dk_28 (dk_at dksX1_driver_1 6 rfl rfl)
theorem dX1_driver_31 : decode cX1_driver 31 = .ok (.bipush (-4), 2) := dk_16 252 (dk_at dksX1_driver_1 7 rfl rfl)
theorem dX1_driver_33 : decode cX1_driver 33 = .ok (.if_icmp .eq 24, 3) := dk_159 0 24 (dk_at dksX1_driver_1 9 rfl rfl)
theorem dX1_driver_36 : decode cX1_driver 36 = .ok (.aload_n 0, 1) := dk_42 (dk_at dksX1_driver_1 12 rfl rfl)
theorem dX1_driver_37 : decode cX1_driver 37 = .ok (.getfield 221, 3) := dk_180 0 221 (dk_at dksX1_driver_1 13 rfl rfl)
theorem dX1_driver_40 : decode cX1_driver 40 = .ok (.getfield 183, 3) := dk_180 0 183 (dk_at dksX1_driver_1 16 rfl rfl)
theorem dX1_driver_43 : decode cX1_driver 43 = .ok (.iload_n 3, 1) := dk_29 (dk_at dksX1_driver_1 19 rfl rfl)
theorem dX1_driver_44 : decode cX1_driver 44 = .ok (.iaload, 1) := dk_46 (dk_at dksX1_driver_1 20 rfl rfl)
theorem dX1_driver_45 : decode cX1_driver 45 = .ok (.aload_n 0, 1) := dk_42 (dk_at dksX1_driver_1 21 rfl rfl)
theorem dX1_driver_46 : decode cX1_driver 46 = .ok (.getfield 221, 3) := dk_180 0 221 (dk_at dksX1_driver_2 0 rfl rfl)
theorem dX1_driver_49 : decode cX1_driver 49 = .ok (.getfield 183, 3) := dk_180 0 183 (dk_at dksX1_driver_2 3 rfl rfl)
theorem dX1_driver_52 : decode cX1_driver 52 = .ok (.iload_n 2, 1) := dk_28 (dk_at dksX1_driver_2 6 rfl rfl)
theorem dX1_driver_53 : decode cX1_driver 53 = .ok (.iaload, 1) := dk_46 (dk_at dksX1_driver_2 7 rfl rfl)
theorem dX1_driver_54 : decode cX1_driver 54 = .ok (.if_icmp .ge 5, 3) := dk_162 0 5 (dk_at dksX1_driver_2 8 rfl rfl)
theorem dX1_driver_57 : decode cX1_driver 57 = .ok (.iload_n 3, 1) := dk_29 (dk_at dksX1_driver_2 11 rfl rfl)
theorem dX1_driver_58 : decode cX1_driver 58 = .ok (.istore_n 2, 1) := dk_61 (dk_at dksX1_driver_2 12 rfl rfl)
theorem dX1_driver_59 : decode cX1_driver 59 = .ok (.iinc 3 1, 3) := dk_132 3 1 (dk_at dksX1_driver_2 13 rfl rfl)
theorem dX1_driver_62 : decode cX1_driver 62 = .ok (.goto (-43), 3) := dk_167 255 213 (dk_at dksX1_driver_2 16 rfl rfl)
theorem dX1_driver_65 : decode cX1_driver 65 = .ok (.iload_n 2, 1) := dk_28 (dk_at dksX1_driver_2 19 rfl rfl)
theorem dX1_driver_66 : decode cX1_driver 66 = .ok (.ireturn, 1) := dk_172 (dk_at dksX1_driver_2 20 rfl rfl)
abbrev cX1_full : ByteArray := prog_1_method_39_code
def yX1_full : MethodName := ⟨RX1, "full", "()I"⟩
def dkwX1_full_1 : List UInt8 := [182, 0, 248, 154, 0, 5, 27, 172, 42, 180, 0, 221, 182, 0, 224, 132, 1, 1, 167, 255, 228, 16, 252, 172]
abbrev dktX1_full_1 : List UInt8 := dkwX1_full_1 ++ []
def dkwX1_full_0 : List UInt8 := [42, 180, 0, 221, 42, 180, 0, 48, 182, 0, 111, 3, 60, 27, 16, 60, 163, 0, 28, 42, 180, 0, 221]
abbrev dktX1_full_0 : List UInt8 := dkwX1_full_0 ++ dktX1_full_1
theorem dksX1_full_0 : cX1_full.data.toList.drop 0 = dktX1_full_0 := by decide +kernel
theorem dksX1_full_1 : cX1_full.data.toList.drop 23 = dktX1_full_1 := dk_seg dksX1_full_0 23 rfl rfl
theorem dX1_full_0 : decode cX1_full 0 = .ok (.aload_n 0, 1) := dk_42 (dk_at dksX1_full_0 0 rfl rfl)
theorem dX1_full_1 : decode cX1_full 1 = .ok (.getfield 221, 3) := dk_180 0 221 (dk_at dksX1_full_0 1 rfl rfl)
theorem dX1_full_4 : decode cX1_full 4 = .ok (.aload_n 0, 1) := dk_42 (dk_at dksX1_full_0 4 rfl rfl)
theorem dX1_full_5 : decode cX1_full 5 = .ok (.getfield 48, 3) := dk_180 0 48 (dk_at dksX1_full_0 5 rfl rfl)
theorem dX1_full_8 : decode cX1_full 8 = .ok (.invokevirtual 111, 3) := dk_182 0 111 (dk_at dksX1_full_0 8 rfl rfl)
theorem dX1_full_11 : decode cX1_full 11 = .ok (.iconst 0, 1) := dk_3 (dk_at dksX1_full_0 11 rfl rfl)
theorem dX1_full_12 : decode cX1_full 12 = .ok (.istore_n 1, 1) := dk_60 (dk_at dksX1_full_0 12 rfl rfl)
theorem dX1_full_13 : decode cX1_full 13 = .ok (.iload_n 1, 1) := dk_27 (dk_at dksX1_full_0 13 rfl rfl)
theorem dX1_full_14 : decode cX1_full 14 = .ok (.bipush 60, 2) := dk_16 60 (dk_at dksX1_full_0 14 rfl rfl)
theorem dX1_full_16 : decode cX1_full 16 = .ok (.if_icmp .gt 28, 3) := dk_163 0 28 (dk_at dksX1_full_0 16 rfl rfl)
theorem dX1_full_19 : decode cX1_full 19 = .ok (.aload_n 0, 1) := dk_42 (dk_at dksX1_full_0 19 rfl rfl)
theorem dX1_full_20 : decode cX1_full 20 = .ok (.getfield 221, 3) := dk_180 0 221 (dk_at dksX1_full_0 20 rfl rfl)
theorem dX1_full_23 : decode cX1_full 23 = .ok (.invokevirtual 248, 3) := dk_182 0 248 (dk_at dksX1_full_1 0 rfl rfl)
theorem dX1_full_26 : decode cX1_full 26 = .ok (.ifCond .ne 5, 3) := dk_154 0 5 (dk_at dksX1_full_1 3 rfl rfl)
theorem dX1_full_29 : decode cX1_full 29 = .ok (.iload_n 1, 1) := dk_27 (dk_at dksX1_full_1 6 rfl rfl)
theorem dX1_full_30 : decode cX1_full 30 = .ok (.ireturn, 1) := dk_172 (dk_at dksX1_full_1 7 rfl rfl)
theorem dX1_full_31 : decode cX1_full 31 = .ok (.aload_n 0, 1) := dk_42 (dk_at dksX1_full_1 8 rfl rfl)
theorem dX1_full_32 : decode cX1_full 32 = .ok (.getfield 221, 3) := dk_180 0 221 (dk_at dksX1_full_1 9 rfl rfl)
theorem dX1_full_35 : decode cX1_full 35 = .ok (.invokevirtual 224, 3) := dk_182 0 224 (dk_at dksX1_full_1 12 rfl rfl)
theorem dX1_full_38 : decode cX1_full 38 = .ok (.iinc 1 1, 3) := dk_132 1 1 (dk_at dksX1_full_1 15 rfl rfl)
theorem dX1_full_41 : decode cX1_full 41 = .ok (.goto (-28), 3) := dk_167 255 228 (dk_at dksX1_full_1 18 rfl rfl)
theorem dX1_full_44 : decode cX1_full 44 = .ok (.bipush (-4), 2) := dk_16 252 (dk_at dksX1_full_1 21 rfl rfl)
theorem dX1_full_46 : decode cX1_full 46 = .ok (.ireturn, 1) := dk_172 (dk_at dksX1_full_1 23 rfl rfl)
abbrev cX1_seeded : ByteArray := prog_1_method_41_code
def yX1_seeded : MethodName := ⟨RX1, "seeded", "(III)I"⟩
def dkwX1_seeded_5 : List UInt8 := [180, 0, 221, 180, 0, 236, 167, 0, 10, 42, 180, 0, 221, 180, 0, 239, 172]
abbrev dktX1_seeded_5 : List UInt8 := dkwX1_seeded_5 ++ []
def dkwX1_seeded_4 : List UInt8 := [132, 5, 1, 167, 255, 225, 42, 180, 0, 221, 182, 0, 224, 132, 4, 1, 167, 255, 203, 29, 154, 0, 13, 42]
abbrev dktX1_seeded_4 : List UInt8 := dkwX1_seeded_4 ++ dktX1_seeded_5
def dkwX1_seeded_3 : List UInt8 := [180, 0, 215, 162, 0, 25, 42, 180, 0, 221, 180, 0, 179, 21, 5, 42, 16, 6, 182, 1, 1, 79]
abbrev dktX1_seeded_3 : List UInt8 := dkwX1_seeded_3 ++ dktX1_seeded_4
def dkwX1_seeded_2 : List UInt8 := [28, 181, 0, 251, 3, 54, 4, 21, 4, 27, 162, 0, 53, 3, 54, 5, 21, 5, 42, 180, 0, 221]
abbrev dktX1_seeded_2 : List UInt8 := dkwX1_seeded_2 ++ dktX1_seeded_3
def dkwX1_seeded_1 : List UInt8 := [180, 0, 48, 180, 0, 215, 154, 0, 6, 16, 253, 172, 42, 180, 0, 221, 42, 180, 0, 48, 182, 0, 111, 42]
abbrev dktX1_seeded_1 : List UInt8 := dkwX1_seeded_1 ++ dktX1_seeded_2
def dkwX1_seeded_0 : List UInt8 := [27, 4, 16, 30, 184, 0, 3, 153, 0, 12, 29, 3, 4, 184, 0, 3, 154, 0, 5, 2, 172, 42]
abbrev dktX1_seeded_0 : List UInt8 := dkwX1_seeded_0 ++ dktX1_seeded_1
theorem dksX1_seeded_0 : cX1_seeded.data.toList.drop 0 = dktX1_seeded_0 := by decide +kernel
theorem dksX1_seeded_1 : cX1_seeded.data.toList.drop 22 = dktX1_seeded_1 := dk_seg dksX1_seeded_0 22 rfl rfl
theorem dksX1_seeded_2 : cX1_seeded.data.toList.drop 46 = dktX1_seeded_2 := dk_seg dksX1_seeded_1 24 rfl rfl
theorem dksX1_seeded_3 : cX1_seeded.data.toList.drop 68 = dktX1_seeded_3 := dk_seg dksX1_seeded_2 22 rfl rfl
theorem dksX1_seeded_4 : cX1_seeded.data.toList.drop 90 = dktX1_seeded_4 := dk_seg dksX1_seeded_3 22 rfl rfl
theorem dksX1_seeded_5 : cX1_seeded.data.toList.drop 114 = dktX1_seeded_5 := dk_seg dksX1_seeded_4 24 rfl rfl
theorem dX1_seeded_0 : decode cX1_seeded 0 = .ok (.iload_n 1, 1) := dk_27 (dk_at dksX1_seeded_0 0 rfl rfl)
theorem dX1_seeded_1 : decode cX1_seeded 1 = .ok (.iconst 1, 1) := dk_4 (dk_at dksX1_seeded_0 1 rfl rfl)
theorem dX1_seeded_2 : decode cX1_seeded 2 = .ok (.bipush 30, 2) := dk_16 30 (dk_at dksX1_seeded_0 2 rfl rfl)
theorem dX1_seeded_4 : decode cX1_seeded 4 = .ok (.invokestatic 3, 3) := dk_184 0 3 (dk_at dksX1_seeded_0 4 rfl rfl)
theorem dX1_seeded_7 : decode cX1_seeded 7 = .ok (.ifCond .eq 12, 3) := dk_153 0 12 (dk_at dksX1_seeded_0 7 rfl rfl)
theorem dX1_seeded_10 : decode cX1_seeded 10 = .ok (.iload_n 3, 1) := dk_29 (dk_at dksX1_seeded_0 10 rfl rfl)
theorem dX1_seeded_11 : decode cX1_seeded 11 = .ok (.iconst 0, 1) := dk_3 (dk_at dksX1_seeded_0 11 rfl rfl)
theorem dX1_seeded_12 : decode cX1_seeded 12 = .ok (.iconst 1, 1) := dk_4 (dk_at dksX1_seeded_0 12 rfl rfl)
theorem dX1_seeded_13 : decode cX1_seeded 13 = .ok (.invokestatic 3, 3) := dk_184 0 3 (dk_at dksX1_seeded_0 13 rfl rfl)
theorem dX1_seeded_16 : decode cX1_seeded 16 = .ok (.ifCond .ne 5, 3) := dk_154 0 5 (dk_at dksX1_seeded_0 16 rfl rfl)
theorem dX1_seeded_19 : decode cX1_seeded 19 = .ok (.iconst (-1), 1) := dk_2 (dk_at dksX1_seeded_0 19 rfl rfl)
theorem dX1_seeded_20 : decode cX1_seeded 20 = .ok (.ireturn, 1) := dk_172 (dk_at dksX1_seeded_0 20 rfl rfl)
theorem dX1_seeded_21 : decode cX1_seeded 21 = .ok (.aload_n 0, 1) := dk_42 (dk_at dksX1_seeded_0 21 rfl rfl)
theorem dX1_seeded_22 : decode cX1_seeded 22 = .ok (.getfield 48, 3) := dk_180 0 48 (dk_at dksX1_seeded_1 0 rfl rfl)
theorem dX1_seeded_25 : decode cX1_seeded 25 = .ok (.getfield 215, 3) := dk_180 0 215 (dk_at dksX1_seeded_1 3 rfl rfl)
theorem dX1_seeded_28 : decode cX1_seeded 28 = .ok (.ifCond .ne 6, 3) := dk_154 0 6 (dk_at dksX1_seeded_1 6 rfl rfl)
theorem dX1_seeded_31 : decode cX1_seeded 31 = .ok (.bipush (-3), 2) := dk_16 253 (dk_at dksX1_seeded_1 9 rfl rfl)
theorem dX1_seeded_33 : decode cX1_seeded 33 = .ok (.ireturn, 1) := dk_172 (dk_at dksX1_seeded_1 11 rfl rfl)
theorem dX1_seeded_34 : decode cX1_seeded 34 = .ok (.aload_n 0, 1) := dk_42 (dk_at dksX1_seeded_1 12 rfl rfl)
theorem dX1_seeded_35 : decode cX1_seeded 35 = .ok (.getfield 221, 3) := dk_180 0 221 (dk_at dksX1_seeded_1 13 rfl rfl)
theorem dX1_seeded_38 : decode cX1_seeded 38 = .ok (.aload_n 0, 1) := dk_42 (dk_at dksX1_seeded_1 16 rfl rfl)
theorem dX1_seeded_39 : decode cX1_seeded 39 = .ok (.getfield 48, 3) := dk_180 0 48 (dk_at dksX1_seeded_1 17 rfl rfl)
theorem dX1_seeded_42 : decode cX1_seeded 42 = .ok (.invokevirtual 111, 3) := dk_182 0 111 (dk_at dksX1_seeded_1 20 rfl rfl)
theorem dX1_seeded_45 : decode cX1_seeded 45 = .ok (.aload_n 0, 1) := dk_42 (dk_at dksX1_seeded_1 23 rfl rfl)
theorem dX1_seeded_46 : decode cX1_seeded 46 = .ok (.iload_n 2, 1) := dk_28 (dk_at dksX1_seeded_2 0 rfl rfl)
theorem dX1_seeded_47 : decode cX1_seeded 47 = .ok (.putfield 251, 3) := dk_181 0 251 (dk_at dksX1_seeded_2 1 rfl rfl)
theorem dX1_seeded_50 : decode cX1_seeded 50 = .ok (.iconst 0, 1) := dk_3 (dk_at dksX1_seeded_2 4 rfl rfl)
theorem dX1_seeded_51 : decode cX1_seeded 51 = .ok (.istore 4, 2) := dk_54 4 (dk_at dksX1_seeded_2 5 rfl rfl)
theorem dX1_seeded_53 : decode cX1_seeded 53 = .ok (.iload 4, 2) := dk_21 4 (dk_at dksX1_seeded_2 7 rfl rfl)
theorem dX1_seeded_55 : decode cX1_seeded 55 = .ok (.iload_n 1, 1) := dk_27 (dk_at dksX1_seeded_2 9 rfl rfl)
theorem dX1_seeded_56 : decode cX1_seeded 56 = .ok (.if_icmp .ge 53, 3) := dk_162 0 53 (dk_at dksX1_seeded_2 10 rfl rfl)
theorem dX1_seeded_59 : decode cX1_seeded 59 = .ok (.iconst 0, 1) := dk_3 (dk_at dksX1_seeded_2 13 rfl rfl)
theorem dX1_seeded_60 : decode cX1_seeded 60 = .ok (.istore 5, 2) := dk_54 5 (dk_at dksX1_seeded_2 14 rfl rfl)
theorem dX1_seeded_62 : decode cX1_seeded 62 = .ok (.iload 5, 2) := dk_21 5 (dk_at dksX1_seeded_2 16 rfl rfl)
theorem dX1_seeded_64 : decode cX1_seeded 64 = .ok (.aload_n 0, 1) := dk_42 (dk_at dksX1_seeded_2 18 rfl rfl)
theorem dX1_seeded_65 : decode cX1_seeded 65 = .ok (.getfield 221, 3) := dk_180 0 221 (dk_at dksX1_seeded_2 19 rfl rfl)
theorem dX1_seeded_68 : decode cX1_seeded 68 = .ok (.getfield 215, 3) := dk_180 0 215 (dk_at dksX1_seeded_3 0 rfl rfl)
theorem dX1_seeded_71 : decode cX1_seeded 71 = .ok (.if_icmp .ge 25, 3) := dk_162 0 25 (dk_at dksX1_seeded_3 3 rfl rfl)
theorem dX1_seeded_74 : decode cX1_seeded 74 = .ok (.aload_n 0, 1) := dk_42 (dk_at dksX1_seeded_3 6 rfl rfl)
theorem dX1_seeded_75 : decode cX1_seeded 75 = .ok (.getfield 221, 3) := dk_180 0 221 (dk_at dksX1_seeded_3 7 rfl rfl)
theorem dX1_seeded_78 : decode cX1_seeded 78 = .ok (.getfield 179, 3) := dk_180 0 179 (dk_at dksX1_seeded_3 10 rfl rfl)
theorem dX1_seeded_81 : decode cX1_seeded 81 = .ok (.iload 5, 2) := dk_21 5 (dk_at dksX1_seeded_3 13 rfl rfl)
theorem dX1_seeded_83 : decode cX1_seeded 83 = .ok (.aload_n 0, 1) := dk_42 (dk_at dksX1_seeded_3 15 rfl rfl)
theorem dX1_seeded_84 : decode cX1_seeded 84 = .ok (.bipush 6, 2) := dk_16 6 (dk_at dksX1_seeded_3 16 rfl rfl)
theorem dX1_seeded_86 : decode cX1_seeded 86 = .ok (.invokevirtual 257, 3) := dk_182 1 1 (dk_at dksX1_seeded_3 18 rfl rfl)
theorem dX1_seeded_89 : decode cX1_seeded 89 = .ok (.iastore, 1) := dk_79 (dk_at dksX1_seeded_3 21 rfl rfl)
theorem dX1_seeded_90 : decode cX1_seeded 90 = .ok (.iinc 5 1, 3) := dk_132 5 1 (dk_at dksX1_seeded_4 0 rfl rfl)
theorem dX1_seeded_93 : decode cX1_seeded 93 = .ok (.goto (-31), 3) := dk_167 255 225 (dk_at dksX1_seeded_4 3 rfl rfl)
theorem dX1_seeded_96 : decode cX1_seeded 96 = .ok (.aload_n 0, 1) := dk_42 (dk_at dksX1_seeded_4 6 rfl rfl)
theorem dX1_seeded_97 : decode cX1_seeded 97 = .ok (.getfield 221, 3) := dk_180 0 221 (dk_at dksX1_seeded_4 7 rfl rfl)
theorem dX1_seeded_100 : decode cX1_seeded 100 = .ok (.invokevirtual 224, 3) := dk_182 0 224 (dk_at dksX1_seeded_4 10 rfl rfl)
theorem dX1_seeded_103 : decode cX1_seeded 103 = .ok (.iinc 4 1, 3) := dk_132 4 1 (dk_at dksX1_seeded_4 13 rfl rfl)
theorem dX1_seeded_106 : decode cX1_seeded 106 = .ok (.goto (-53), 3) := dk_167 255 203 (dk_at dksX1_seeded_4 16 rfl rfl)
theorem dX1_seeded_109 : decode cX1_seeded 109 = .ok (.iload_n 3, 1) := dk_29 (dk_at dksX1_seeded_4 19 rfl rfl)
theorem dX1_seeded_110 : decode cX1_seeded 110 = .ok (.ifCond .ne 13, 3) := dk_154 0 13 (dk_at dksX1_seeded_4 20 rfl rfl)
theorem dX1_seeded_113 : decode cX1_seeded 113 = .ok (.aload_n 0, 1) := dk_42 (dk_at dksX1_seeded_4 23 rfl rfl)
theorem dX1_seeded_114 : decode cX1_seeded 114 = .ok (.getfield 221, 3) := dk_180 0 221 (dk_at dksX1_seeded_5 0 rfl rfl)
theorem dX1_seeded_117 : decode cX1_seeded 117 = .ok (.getfield 236, 3) := dk_180 0 236 (dk_at dksX1_seeded_5 3 rfl rfl)
theorem dX1_seeded_120 : decode cX1_seeded 120 = .ok (.goto 10, 3) := dk_167 0 10 (dk_at dksX1_seeded_5 6 rfl rfl)
theorem dX1_seeded_123 : decode cX1_seeded 123 = .ok (.aload_n 0, 1) := dk_42 (dk_at dksX1_seeded_5 9 rfl rfl)
theorem dX1_seeded_124 : decode cX1_seeded 124 = .ok (.getfield 221, 3) := dk_180 0 221 (dk_at dksX1_seeded_5 10 rfl rfl)
theorem dX1_seeded_127 : decode cX1_seeded 127 = .ok (.getfield 239, 3) := dk_180 0 239 (dk_at dksX1_seeded_5 13 rfl rfl)
theorem dX1_seeded_130 : decode cX1_seeded 130 = .ok (.ireturn, 1) := dk_172 (dk_at dksX1_seeded_5 16 rfl rfl)
abbrev cX1_draw : ByteArray := prog_1_method_40_code
def yX1_draw : MethodName := ⟨RX1, "draw", "(I)I"⟩
def dkwX1_draw_1 : List UInt8 := [19, 1, 0, 108, 27, 112, 172]
abbrev dktX1_draw_1 : List UInt8 := dkwX1_draw_1 ++ []
def dkwX1_draw_0 : List UInt8 := [42, 42, 180, 0, 251, 18, 254, 104, 17, 48, 57, 96, 181, 0, 251, 42, 180, 0, 251, 18, 255, 126]
abbrev dktX1_draw_0 : List UInt8 := dkwX1_draw_0 ++ dktX1_draw_1
theorem dksX1_draw_0 : cX1_draw.data.toList.drop 0 = dktX1_draw_0 := by decide +kernel
theorem dksX1_draw_1 : cX1_draw.data.toList.drop 22 = dktX1_draw_1 := dk_seg dksX1_draw_0 22 rfl rfl
theorem dX1_draw_0 : decode cX1_draw 0 = .ok (.aload_n 0, 1) := dk_42 (dk_at dksX1_draw_0 0 rfl rfl)
theorem dX1_draw_1 : decode cX1_draw 1 = .ok (.aload_n 0, 1) := dk_42 (dk_at dksX1_draw_0 1 rfl rfl)
theorem dX1_draw_2 : decode cX1_draw 2 = .ok (.getfield 251, 3) := dk_180 0 251 (dk_at dksX1_draw_0 2 rfl rfl)
theorem dX1_draw_5 : decode cX1_draw 5 = .ok (.ldc 254, 2) := dk_18 254 (dk_at dksX1_draw_0 5 rfl rfl)
theorem dX1_draw_7 : decode cX1_draw 7 = .ok (.imul, 1) := dk_104 (dk_at dksX1_draw_0 7 rfl rfl)
theorem dX1_draw_8 : decode cX1_draw 8 = .ok (.sipush 12345, 3) := dk_17 48 57 (dk_at dksX1_draw_0 8 rfl rfl)
theorem dX1_draw_11 : decode cX1_draw 11 = .ok (.iadd, 1) := dk_96 (dk_at dksX1_draw_0 11 rfl rfl)
theorem dX1_draw_12 : decode cX1_draw 12 = .ok (.putfield 251, 3) := dk_181 0 251 (dk_at dksX1_draw_0 12 rfl rfl)
theorem dX1_draw_15 : decode cX1_draw 15 = .ok (.aload_n 0, 1) := dk_42 (dk_at dksX1_draw_0 15 rfl rfl)
theorem dX1_draw_16 : decode cX1_draw 16 = .ok (.getfield 251, 3) := dk_180 0 251 (dk_at dksX1_draw_0 16 rfl rfl)
theorem dX1_draw_19 : decode cX1_draw 19 = .ok (.ldc 255, 2) := dk_18 255 (dk_at dksX1_draw_0 19 rfl rfl)
theorem dX1_draw_21 : decode cX1_draw 21 = .ok (.iand, 1) := dk_126 (dk_at dksX1_draw_0 21 rfl rfl)
theorem dX1_draw_22 : decode cX1_draw 22 = .ok (.ldc_w 256, 3) := dk_19 1 0 (dk_at dksX1_draw_1 0 rfl rfl)
theorem dX1_draw_25 : decode cX1_draw 25 = .ok (.idiv, 1) := dk_108 (dk_at dksX1_draw_1 3 rfl rfl)
theorem dX1_draw_26 : decode cX1_draw 26 = .ok (.iload_n 1, 1) := dk_27 (dk_at dksX1_draw_1 4 rfl rfl)
theorem dX1_draw_27 : decode cX1_draw 27 = .ok (.irem, 1) := dk_112 (dk_at dksX1_draw_1 5 rfl rfl)
theorem dX1_draw_28 : decode cX1_draw 28 = .ok (.ireturn, 1) := dk_172 (dk_at dksX1_draw_1 6 rfl rfl)
abbrev cX1_judge : ByteArray := prog_1_method_45_code
def yX1_judge : MethodName := ⟨RX1, "judge", "(II)I"⟩
def dkwX1_judge_5 : List UInt8 := [16, 252, 172]
abbrev dktX1_judge_5 : List UInt8 := dkwX1_judge_5 ++ []
def dkwX1_judge_4 : List UInt8 := [180, 0, 154, 27, 46, 159, 0, 6, 21, 4, 172, 42, 180, 0, 221, 182, 0, 224, 132, 4, 1, 167, 255, 203]
abbrev dktX1_judge_4 : List UInt8 := dkwX1_judge_4 ++ dktX1_judge_5
def dkwX1_judge_3 : List UInt8 := [21, 4, 184, 1, 21, 54, 5, 21, 5, 45, 184, 1, 25, 159, 0, 20, 21, 5, 42, 180, 0, 221]
abbrev dktX1_judge_3 : List UInt8 := dkwX1_judge_3 ++ dktX1_judge_4
def dkwX1_judge_2 : List UInt8 := [42, 180, 0, 221, 42, 180, 0, 48, 182, 0, 111, 3, 54, 4, 21, 4, 45, 184, 1, 18, 162, 0, 50, 45]
abbrev dktX1_judge_2 : List UInt8 := dkwX1_judge_2 ++ dktX1_judge_3
def dkwX1_judge_1 : List UInt8 := [28, 50, 180, 0, 100, 78, 45, 199, 0, 6, 16, 245, 172, 45, 184, 1, 14, 2, 160, 0, 6, 16, 244, 172]
abbrev dktX1_judge_1 : List UInt8 := dkwX1_judge_1 ++ dktX1_judge_2
def dkwX1_judge_0 : List UInt8 := [42, 180, 0, 48, 27, 182, 0, 69, 153, 0, 10, 28, 184, 0, 93, 154, 0, 5, 2, 172, 42, 180, 0, 96]
abbrev dktX1_judge_0 : List UInt8 := dkwX1_judge_0 ++ dktX1_judge_1
theorem dksX1_judge_0 : cX1_judge.data.toList.drop 0 = dktX1_judge_0 := by decide +kernel
theorem dksX1_judge_1 : cX1_judge.data.toList.drop 24 = dktX1_judge_1 := dk_seg dksX1_judge_0 24 rfl rfl
theorem dksX1_judge_2 : cX1_judge.data.toList.drop 48 = dktX1_judge_2 := dk_seg dksX1_judge_1 24 rfl rfl
theorem dksX1_judge_3 : cX1_judge.data.toList.drop 72 = dktX1_judge_3 := dk_seg dksX1_judge_2 24 rfl rfl
theorem dksX1_judge_4 : cX1_judge.data.toList.drop 94 = dktX1_judge_4 := dk_seg dksX1_judge_3 22 rfl rfl
theorem dksX1_judge_5 : cX1_judge.data.toList.drop 118 = dktX1_judge_5 := dk_seg dksX1_judge_4 24 rfl rfl
theorem dX1_judge_0 : decode cX1_judge 0 = .ok (.aload_n 0, 1) := dk_42 (dk_at dksX1_judge_0 0 rfl rfl)
theorem dX1_judge_1 : decode cX1_judge 1 = .ok (.getfield 48, 3) := dk_180 0 48 (dk_at dksX1_judge_0 1 rfl rfl)
theorem dX1_judge_4 : decode cX1_judge 4 = .ok (.iload_n 1, 1) := dk_27 (dk_at dksX1_judge_0 4 rfl rfl)
theorem dX1_judge_5 : decode cX1_judge 5 = .ok (.invokevirtual 69, 3) := dk_182 0 69 (dk_at dksX1_judge_0 5 rfl rfl)
theorem dX1_judge_8 : decode cX1_judge 8 = .ok (.ifCond .eq 10, 3) := dk_153 0 10 (dk_at dksX1_judge_0 8 rfl rfl)
theorem dX1_judge_11 : decode cX1_judge 11 = .ok (.iload_n 2, 1) := dk_28 (dk_at dksX1_judge_0 11 rfl rfl)
theorem dX1_judge_12 : decode cX1_judge 12 = .ok (.invokestatic 93, 3) := dk_184 0 93 (dk_at dksX1_judge_0 12 rfl rfl)
theorem dX1_judge_15 : decode cX1_judge 15 = .ok (.ifCond .ne 5, 3) := dk_154 0 5 (dk_at dksX1_judge_0 15 rfl rfl)
theorem dX1_judge_18 : decode cX1_judge 18 = .ok (.iconst (-1), 1) := dk_2 (dk_at dksX1_judge_0 18 rfl rfl)
theorem dX1_judge_19 : decode cX1_judge 19 = .ok (.ireturn, 1) := dk_172 (dk_at dksX1_judge_0 19 rfl rfl)
theorem dX1_judge_20 : decode cX1_judge 20 = .ok (.aload_n 0, 1) := dk_42 (dk_at dksX1_judge_0 20 rfl rfl)
theorem dX1_judge_21 : decode cX1_judge 21 = .ok (.getfield 96, 3) := dk_180 0 96 (dk_at dksX1_judge_0 21 rfl rfl)
theorem dX1_judge_24 : decode cX1_judge 24 = .ok (.iload_n 2, 1) := dk_28 (dk_at dksX1_judge_1 0 rfl rfl)
theorem dX1_judge_25 : decode cX1_judge 25 = .ok (.aaload, 1) := dk_50 (dk_at dksX1_judge_1 1 rfl rfl)
theorem dX1_judge_26 : decode cX1_judge 26 = .ok (.getfield 100, 3) := dk_180 0 100 (dk_at dksX1_judge_1 2 rfl rfl)
theorem dX1_judge_29 : decode cX1_judge 29 = .ok (.astore_n 3, 1) := dk_78 (dk_at dksX1_judge_1 5 rfl rfl)
theorem dX1_judge_30 : decode cX1_judge 30 = .ok (.aload_n 3, 1) := dk_45 (dk_at dksX1_judge_1 6 rfl rfl)
theorem dX1_judge_31 : decode cX1_judge 31 = .ok (.ifnonnull 6, 3) := dk_199 0 6 (dk_at dksX1_judge_1 7 rfl rfl)
theorem dX1_judge_34 : decode cX1_judge 34 = .ok (.bipush (-11), 2) := dk_16 245 (dk_at dksX1_judge_1 10 rfl rfl)
theorem dX1_judge_36 : decode cX1_judge 36 = .ok (.ireturn, 1) := dk_172 (dk_at dksX1_judge_1 12 rfl rfl)
theorem dX1_judge_37 : decode cX1_judge 37 = .ok (.aload_n 3, 1) := dk_45 (dk_at dksX1_judge_1 13 rfl rfl)
theorem dX1_judge_38 : decode cX1_judge 38 = .ok (.invokestatic 270, 3) := dk_184 1 14 (dk_at dksX1_judge_1 14 rfl rfl)
theorem dX1_judge_41 : decode cX1_judge 41 = .ok (.iconst (-1), 1) := dk_2 (dk_at dksX1_judge_1 17 rfl rfl)
theorem dX1_judge_42 : decode cX1_judge 42 = .ok (.if_icmp .ne 6, 3) := dk_160 0 6 (dk_at dksX1_judge_1 18 rfl rfl)
theorem dX1_judge_45 : decode cX1_judge 45 = .ok (.bipush (-12), 2) := dk_16 244 (dk_at dksX1_judge_1 21 rfl rfl)
theorem dX1_judge_47 : decode cX1_judge 47 = .ok (.ireturn, 1) := dk_172 (dk_at dksX1_judge_1 23 rfl rfl)
theorem dX1_judge_48 : decode cX1_judge 48 = .ok (.aload_n 0, 1) := dk_42 (dk_at dksX1_judge_2 0 rfl rfl)
theorem dX1_judge_49 : decode cX1_judge 49 = .ok (.getfield 221, 3) := dk_180 0 221 (dk_at dksX1_judge_2 1 rfl rfl)
theorem dX1_judge_52 : decode cX1_judge 52 = .ok (.aload_n 0, 1) := dk_42 (dk_at dksX1_judge_2 4 rfl rfl)
theorem dX1_judge_53 : decode cX1_judge 53 = .ok (.getfield 48, 3) := dk_180 0 48 (dk_at dksX1_judge_2 5 rfl rfl)
theorem dX1_judge_56 : decode cX1_judge 56 = .ok (.invokevirtual 111, 3) := dk_182 0 111 (dk_at dksX1_judge_2 8 rfl rfl)
theorem dX1_judge_59 : decode cX1_judge 59 = .ok (.iconst 0, 1) := dk_3 (dk_at dksX1_judge_2 11 rfl rfl)
theorem dX1_judge_60 : decode cX1_judge 60 = .ok (.istore 4, 2) := dk_54 4 (dk_at dksX1_judge_2 12 rfl rfl)
theorem dX1_judge_62 : decode cX1_judge 62 = .ok (.iload 4, 2) := dk_21 4 (dk_at dksX1_judge_2 14 rfl rfl)
theorem dX1_judge_64 : decode cX1_judge 64 = .ok (.aload_n 3, 1) := dk_45 (dk_at dksX1_judge_2 16 rfl rfl)
theorem dX1_judge_65 : decode cX1_judge 65 = .ok (.invokestatic 274, 3) := dk_184 1 18 (dk_at dksX1_judge_2 17 rfl rfl)
theorem dX1_judge_68 : decode cX1_judge 68 = .ok (.if_icmp .ge 50, 3) := dk_162 0 50 (dk_at dksX1_judge_2 20 rfl rfl)
theorem dX1_judge_71 : decode cX1_judge 71 = .ok (.aload_n 3, 1) := dk_45 (dk_at dksX1_judge_2 23 rfl rfl)
theorem dX1_judge_72 : decode cX1_judge 72 = .ok (.iload 4, 2) := dk_21 4 (dk_at dksX1_judge_3 0 rfl rfl)
theorem dX1_judge_74 : decode cX1_judge 74 = .ok (.invokestatic 277, 3) := dk_184 1 21 (dk_at dksX1_judge_3 2 rfl rfl)
theorem dX1_judge_77 : decode cX1_judge 77 = .ok (.istore 5, 2) := dk_54 5 (dk_at dksX1_judge_3 5 rfl rfl)
theorem dX1_judge_79 : decode cX1_judge 79 = .ok (.iload 5, 2) := dk_21 5 (dk_at dksX1_judge_3 7 rfl rfl)
theorem dX1_judge_81 : decode cX1_judge 81 = .ok (.aload_n 3, 1) := dk_45 (dk_at dksX1_judge_3 9 rfl rfl)
theorem dX1_judge_82 : decode cX1_judge 82 = .ok (.invokestatic 281, 3) := dk_184 1 25 (dk_at dksX1_judge_3 10 rfl rfl)
theorem dX1_judge_85 : decode cX1_judge 85 = .ok (.if_icmp .eq 20, 3) := dk_159 0 20 (dk_at dksX1_judge_3 13 rfl rfl)
theorem dX1_judge_88 : decode cX1_judge 88 = .ok (.iload 5, 2) := dk_21 5 (dk_at dksX1_judge_3 16 rfl rfl)
theorem dX1_judge_90 : decode cX1_judge 90 = .ok (.aload_n 0, 1) := dk_42 (dk_at dksX1_judge_3 18 rfl rfl)
theorem dX1_judge_91 : decode cX1_judge 91 = .ok (.getfield 221, 3) := dk_180 0 221 (dk_at dksX1_judge_3 19 rfl rfl)
theorem dX1_judge_94 : decode cX1_judge 94 = .ok (.getfield 154, 3) := dk_180 0 154 (dk_at dksX1_judge_4 0 rfl rfl)
theorem dX1_judge_97 : decode cX1_judge 97 = .ok (.iload_n 1, 1) := dk_27 (dk_at dksX1_judge_4 3 rfl rfl)
theorem dX1_judge_98 : decode cX1_judge 98 = .ok (.iaload, 1) := dk_46 (dk_at dksX1_judge_4 4 rfl rfl)
theorem dX1_judge_99 : decode cX1_judge 99 = .ok (.if_icmp .eq 6, 3) := dk_159 0 6 (dk_at dksX1_judge_4 5 rfl rfl)
theorem dX1_judge_102 : decode cX1_judge 102 = .ok (.iload 4, 2) := dk_21 4 (dk_at dksX1_judge_4 8 rfl rfl)
theorem dX1_judge_104 : decode cX1_judge 104 = .ok (.ireturn, 1) := dk_172 (dk_at dksX1_judge_4 10 rfl rfl)
theorem dX1_judge_105 : decode cX1_judge 105 = .ok (.aload_n 0, 1) := dk_42 (dk_at dksX1_judge_4 11 rfl rfl)
theorem dX1_judge_106 : decode cX1_judge 106 = .ok (.getfield 221, 3) := dk_180 0 221 (dk_at dksX1_judge_4 12 rfl rfl)
theorem dX1_judge_109 : decode cX1_judge 109 = .ok (.invokevirtual 224, 3) := dk_182 0 224 (dk_at dksX1_judge_4 15 rfl rfl)
theorem dX1_judge_112 : decode cX1_judge 112 = .ok (.iinc 4 1, 3) := dk_132 4 1 (dk_at dksX1_judge_4 18 rfl rfl)
theorem dX1_judge_115 : decode cX1_judge 115 = .ok (.goto (-53), 3) := dk_167 255 203 (dk_at dksX1_judge_4 21 rfl rfl)
theorem dX1_judge_118 : decode cX1_judge 118 = .ok (.bipush (-4), 2) := dk_16 252 (dk_at dksX1_judge_5 0 rfl rfl)
theorem dX1_judge_120 : decode cX1_judge 120 = .ok (.ireturn, 1) := dk_172 (dk_at dksX1_judge_5 2 rfl rfl)
abbrev cX1_sortOf : ByteArray := prog_1_method_54_code
def yX1_sortOf : MethodName := ⟨RX1, "sortOf", "(Ljava/lang/Object;)I"⟩
def dkwX1_sortOf_1 : List UInt8 := [193, 1, 6, 153, 0, 7, 5, 167, 0, 4, 2, 172]
abbrev dktX1_sortOf_1 : List UInt8 := dkwX1_sortOf_1 ++ []
def dkwX1_sortOf_0 : List UInt8 := [42, 193, 0, 106, 153, 0, 7, 3, 167, 0, 26, 42, 193, 1, 4, 153, 0, 7, 4, 167, 0, 15, 42]
abbrev dktX1_sortOf_0 : List UInt8 := dkwX1_sortOf_0 ++ dktX1_sortOf_1
theorem dksX1_sortOf_0 : cX1_sortOf.data.toList.drop 0 = dktX1_sortOf_0 := by decide +kernel
theorem dksX1_sortOf_1 : cX1_sortOf.data.toList.drop 23 = dktX1_sortOf_1 := dk_seg dksX1_sortOf_0 23 rfl rfl
theorem dX1_sortOf_0 : decode cX1_sortOf 0 = .ok (.aload_n 0, 1) := dk_42 (dk_at dksX1_sortOf_0 0 rfl rfl)
theorem dX1_sortOf_1 : decode cX1_sortOf 1 = .ok (.instanceof 106, 3) := dk_193 0 106 (dk_at dksX1_sortOf_0 1 rfl rfl)
theorem dX1_sortOf_4 : decode cX1_sortOf 4 = .ok (.ifCond .eq 7, 3) := dk_153 0 7 (dk_at dksX1_sortOf_0 4 rfl rfl)
theorem dX1_sortOf_7 : decode cX1_sortOf 7 = .ok (.iconst 0, 1) := dk_3 (dk_at dksX1_sortOf_0 7 rfl rfl)
theorem dX1_sortOf_8 : decode cX1_sortOf 8 = .ok (.goto 26, 3) := dk_167 0 26 (dk_at dksX1_sortOf_0 8 rfl rfl)
theorem dX1_sortOf_11 : decode cX1_sortOf 11 = .ok (.aload_n 0, 1) := dk_42 (dk_at dksX1_sortOf_0 11 rfl rfl)
theorem dX1_sortOf_12 : decode cX1_sortOf 12 = .ok (.instanceof 260, 3) := dk_193 1 4 (dk_at dksX1_sortOf_0 12 rfl rfl)
theorem dX1_sortOf_15 : decode cX1_sortOf 15 = .ok (.ifCond .eq 7, 3) := dk_153 0 7 (dk_at dksX1_sortOf_0 15 rfl rfl)
theorem dX1_sortOf_18 : decode cX1_sortOf 18 = .ok (.iconst 1, 1) := dk_4 (dk_at dksX1_sortOf_0 18 rfl rfl)
theorem dX1_sortOf_19 : decode cX1_sortOf 19 = .ok (.goto 15, 3) := dk_167 0 15 (dk_at dksX1_sortOf_0 19 rfl rfl)
theorem dX1_sortOf_22 : decode cX1_sortOf 22 = .ok (.aload_n 0, 1) := dk_42 (dk_at dksX1_sortOf_0 22 rfl rfl)
theorem dX1_sortOf_23 : decode cX1_sortOf 23 = .ok (.instanceof 262, 3) := dk_193 1 6 (dk_at dksX1_sortOf_1 0 rfl rfl)
theorem dX1_sortOf_26 : decode cX1_sortOf 26 = .ok (.ifCond .eq 7, 3) := dk_153 0 7 (dk_at dksX1_sortOf_1 3 rfl rfl)
theorem dX1_sortOf_29 : decode cX1_sortOf 29 = .ok (.iconst 2, 1) := dk_5 (dk_at dksX1_sortOf_1 6 rfl rfl)
theorem dX1_sortOf_30 : decode cX1_sortOf 30 = .ok (.goto 4, 3) := dk_167 0 4 (dk_at dksX1_sortOf_1 7 rfl rfl)
theorem dX1_sortOf_33 : decode cX1_sortOf 33 = .ok (.iconst (-1), 1) := dk_2 (dk_at dksX1_sortOf_1 10 rfl rfl)
theorem dX1_sortOf_34 : decode cX1_sortOf 34 = .ok (.ireturn, 1) := dk_172 (dk_at dksX1_sortOf_1 11 rfl rfl)
abbrev cX1_sizeOf : ByteArray := prog_1_method_42_code
def yX1_sizeOf : MethodName := ⟨RX1, "sizeOf", "(Ljava/lang/Object;)I"⟩
def dkwX1_sizeOf_1 : List UInt8 := [192, 1, 4, 190, 167, 0, 8, 42, 192, 1, 6, 190, 172]
abbrev dktX1_sizeOf_1 : List UInt8 := dkwX1_sizeOf_1 ++ []
def dkwX1_sizeOf_0 : List UInt8 := [42, 193, 0, 106, 153, 0, 11, 42, 192, 0, 106, 190, 167, 0, 23, 42, 193, 1, 4, 153, 0, 11, 42]
abbrev dktX1_sizeOf_0 : List UInt8 := dkwX1_sizeOf_0 ++ dktX1_sizeOf_1
theorem dksX1_sizeOf_0 : cX1_sizeOf.data.toList.drop 0 = dktX1_sizeOf_0 := by decide +kernel
theorem dksX1_sizeOf_1 : cX1_sizeOf.data.toList.drop 23 = dktX1_sizeOf_1 := dk_seg dksX1_sizeOf_0 23 rfl rfl
theorem dX1_sizeOf_0 : decode cX1_sizeOf 0 = .ok (.aload_n 0, 1) := dk_42 (dk_at dksX1_sizeOf_0 0 rfl rfl)
theorem dX1_sizeOf_1 : decode cX1_sizeOf 1 = .ok (.instanceof 106, 3) := dk_193 0 106 (dk_at dksX1_sizeOf_0 1 rfl rfl)
theorem dX1_sizeOf_4 : decode cX1_sizeOf 4 = .ok (.ifCond .eq 11, 3) := dk_153 0 11 (dk_at dksX1_sizeOf_0 4 rfl rfl)
theorem dX1_sizeOf_7 : decode cX1_sizeOf 7 = .ok (.aload_n 0, 1) := dk_42 (dk_at dksX1_sizeOf_0 7 rfl rfl)
theorem dX1_sizeOf_8 : decode cX1_sizeOf 8 = .ok (.checkcast 106, 3) := dk_192 0 106 (dk_at dksX1_sizeOf_0 8 rfl rfl)
theorem dX1_sizeOf_11 : decode cX1_sizeOf 11 = .ok (.arraylength, 1) := dk_190 (dk_at dksX1_sizeOf_0 11 rfl rfl)
theorem dX1_sizeOf_12 : decode cX1_sizeOf 12 = .ok (.goto 23, 3) := dk_167 0 23 (dk_at dksX1_sizeOf_0 12 rfl rfl)
theorem dX1_sizeOf_15 : decode cX1_sizeOf 15 = .ok (.aload_n 0, 1) := dk_42 (dk_at dksX1_sizeOf_0 15 rfl rfl)
theorem dX1_sizeOf_16 : decode cX1_sizeOf 16 = .ok (.instanceof 260, 3) := dk_193 1 4 (dk_at dksX1_sizeOf_0 16 rfl rfl)
theorem dX1_sizeOf_19 : decode cX1_sizeOf 19 = .ok (.ifCond .eq 11, 3) := dk_153 0 11 (dk_at dksX1_sizeOf_0 19 rfl rfl)
theorem dX1_sizeOf_22 : decode cX1_sizeOf 22 = .ok (.aload_n 0, 1) := dk_42 (dk_at dksX1_sizeOf_0 22 rfl rfl)
theorem dX1_sizeOf_23 : decode cX1_sizeOf 23 = .ok (.checkcast 260, 3) := dk_192 1 4 (dk_at dksX1_sizeOf_1 0 rfl rfl)
theorem dX1_sizeOf_26 : decode cX1_sizeOf 26 = .ok (.arraylength, 1) := dk_190 (dk_at dksX1_sizeOf_1 3 rfl rfl)
theorem dX1_sizeOf_27 : decode cX1_sizeOf 27 = .ok (.goto 8, 3) := dk_167 0 8 (dk_at dksX1_sizeOf_1 4 rfl rfl)
theorem dX1_sizeOf_30 : decode cX1_sizeOf 30 = .ok (.aload_n 0, 1) := dk_42 (dk_at dksX1_sizeOf_1 7 rfl rfl)
theorem dX1_sizeOf_31 : decode cX1_sizeOf 31 = .ok (.checkcast 262, 3) := dk_192 1 6 (dk_at dksX1_sizeOf_1 8 rfl rfl)
theorem dX1_sizeOf_34 : decode cX1_sizeOf 34 = .ok (.arraylength, 1) := dk_190 (dk_at dksX1_sizeOf_1 11 rfl rfl)
theorem dX1_sizeOf_35 : decode cX1_sizeOf 35 = .ok (.ireturn, 1) := dk_172 (dk_at dksX1_sizeOf_1 12 rfl rfl)
abbrev cX1_elementOf : ByteArray := prog_1_method_43_code
def yX1_elementOf : MethodName := ⟨RX1, "elementOf", "(Ljava/lang/Object;I)I"⟩
def dkwX1_elementOf_1 : List UInt8 := [192, 1, 4, 27, 53, 167, 0, 9, 42, 192, 1, 6, 27, 46, 172]
abbrev dktX1_elementOf_1 : List UInt8 := dkwX1_elementOf_1 ++ []
def dkwX1_elementOf_0 : List UInt8 := [42, 193, 0, 106, 153, 0, 12, 42, 192, 0, 106, 27, 51, 167, 0, 25, 42, 193, 1, 4, 153, 0, 12, 42]
abbrev dktX1_elementOf_0 : List UInt8 := dkwX1_elementOf_0 ++ dktX1_elementOf_1
theorem dksX1_elementOf_0 : cX1_elementOf.data.toList.drop 0 = dktX1_elementOf_0 := by decide +kernel
theorem dksX1_elementOf_1 : cX1_elementOf.data.toList.drop 24 = dktX1_elementOf_1 := dk_seg dksX1_elementOf_0 24 rfl rfl
theorem dX1_elementOf_0 : decode cX1_elementOf 0 = .ok (.aload_n 0, 1) := dk_42 (dk_at dksX1_elementOf_0 0 rfl rfl)
theorem dX1_elementOf_1 : decode cX1_elementOf 1 = .ok (.instanceof 106, 3) := dk_193 0 106 (dk_at dksX1_elementOf_0 1 rfl rfl)
theorem dX1_elementOf_4 : decode cX1_elementOf 4 = .ok (.ifCond .eq 12, 3) := dk_153 0 12 (dk_at dksX1_elementOf_0 4 rfl rfl)
theorem dX1_elementOf_7 : decode cX1_elementOf 7 = .ok (.aload_n 0, 1) := dk_42 (dk_at dksX1_elementOf_0 7 rfl rfl)
theorem dX1_elementOf_8 : decode cX1_elementOf 8 = .ok (.checkcast 106, 3) := dk_192 0 106 (dk_at dksX1_elementOf_0 8 rfl rfl)
theorem dX1_elementOf_11 : decode cX1_elementOf 11 = .ok (.iload_n 1, 1) := dk_27 (dk_at dksX1_elementOf_0 11 rfl rfl)
theorem dX1_elementOf_12 : decode cX1_elementOf 12 = .ok (.baload, 1) := dk_51 (dk_at dksX1_elementOf_0 12 rfl rfl)
theorem dX1_elementOf_13 : decode cX1_elementOf 13 = .ok (.goto 25, 3) := dk_167 0 25 (dk_at dksX1_elementOf_0 13 rfl rfl)
theorem dX1_elementOf_16 : decode cX1_elementOf 16 = .ok (.aload_n 0, 1) := dk_42 (dk_at dksX1_elementOf_0 16 rfl rfl)
theorem dX1_elementOf_17 : decode cX1_elementOf 17 = .ok (.instanceof 260, 3) := dk_193 1 4 (dk_at dksX1_elementOf_0 17 rfl rfl)
theorem dX1_elementOf_20 : decode cX1_elementOf 20 = .ok (.ifCond .eq 12, 3) := dk_153 0 12 (dk_at dksX1_elementOf_0 20 rfl rfl)
theorem dX1_elementOf_23 : decode cX1_elementOf 23 = .ok (.aload_n 0, 1) := dk_42 (dk_at dksX1_elementOf_0 23 rfl rfl)
theorem dX1_elementOf_24 : decode cX1_elementOf 24 = .ok (.checkcast 260, 3) := dk_192 1 4 (dk_at dksX1_elementOf_1 0 rfl rfl)
theorem dX1_elementOf_27 : decode cX1_elementOf 27 = .ok (.iload_n 1, 1) := dk_27 (dk_at dksX1_elementOf_1 3 rfl rfl)
theorem dX1_elementOf_28 : decode cX1_elementOf 28 = .ok (.saload, 1) := dk_53 (dk_at dksX1_elementOf_1 4 rfl rfl)
theorem dX1_elementOf_29 : decode cX1_elementOf 29 = .ok (.goto 9, 3) := dk_167 0 9 (dk_at dksX1_elementOf_1 5 rfl rfl)
theorem dX1_elementOf_32 : decode cX1_elementOf 32 = .ok (.aload_n 0, 1) := dk_42 (dk_at dksX1_elementOf_1 8 rfl rfl)
theorem dX1_elementOf_33 : decode cX1_elementOf 33 = .ok (.checkcast 262, 3) := dk_192 1 6 (dk_at dksX1_elementOf_1 9 rfl rfl)
theorem dX1_elementOf_36 : decode cX1_elementOf 36 = .ok (.iload_n 1, 1) := dk_27 (dk_at dksX1_elementOf_1 12 rfl rfl)
theorem dX1_elementOf_37 : decode cX1_elementOf 37 = .ok (.iaload, 1) := dk_46 (dk_at dksX1_elementOf_1 13 rfl rfl)
theorem dX1_elementOf_38 : decode cX1_elementOf 38 = .ok (.ireturn, 1) := dk_172 (dk_at dksX1_elementOf_1 14 rfl rfl)
abbrev cX1_leastOf : ByteArray := prog_1_method_44_code
def yX1_leastOf : MethodName := ⟨RX1, "leastOf", "(Ljava/lang/Object;)I"⟩
def dkwX1_leastOf_1 : List UInt8 := [167, 0, 6, 19, 1, 13, 172]
abbrev dktX1_leastOf_1 : List UInt8 := dkwX1_leastOf_1 ++ []
def dkwX1_leastOf_0 : List UInt8 := [42, 193, 0, 106, 153, 0, 8, 16, 128, 167, 0, 19, 42, 193, 1, 4, 153, 0, 9, 17, 128, 0]
abbrev dktX1_leastOf_0 : List UInt8 := dkwX1_leastOf_0 ++ dktX1_leastOf_1
theorem dksX1_leastOf_0 : cX1_leastOf.data.toList.drop 0 = dktX1_leastOf_0 := by decide +kernel
theorem dksX1_leastOf_1 : cX1_leastOf.data.toList.drop 22 = dktX1_leastOf_1 := dk_seg dksX1_leastOf_0 22 rfl rfl
theorem dX1_leastOf_0 : decode cX1_leastOf 0 = .ok (.aload_n 0, 1) := dk_42 (dk_at dksX1_leastOf_0 0 rfl rfl)
theorem dX1_leastOf_1 : decode cX1_leastOf 1 = .ok (.instanceof 106, 3) := dk_193 0 106 (dk_at dksX1_leastOf_0 1 rfl rfl)
theorem dX1_leastOf_4 : decode cX1_leastOf 4 = .ok (.ifCond .eq 8, 3) := dk_153 0 8 (dk_at dksX1_leastOf_0 4 rfl rfl)
theorem dX1_leastOf_7 : decode cX1_leastOf 7 = .ok (.bipush (-128), 2) := dk_16 128 (dk_at dksX1_leastOf_0 7 rfl rfl)
theorem dX1_leastOf_9 : decode cX1_leastOf 9 = .ok (.goto 19, 3) := dk_167 0 19 (dk_at dksX1_leastOf_0 9 rfl rfl)
theorem dX1_leastOf_12 : decode cX1_leastOf 12 = .ok (.aload_n 0, 1) := dk_42 (dk_at dksX1_leastOf_0 12 rfl rfl)
theorem dX1_leastOf_13 : decode cX1_leastOf 13 = .ok (.instanceof 260, 3) := dk_193 1 4 (dk_at dksX1_leastOf_0 13 rfl rfl)
theorem dX1_leastOf_16 : decode cX1_leastOf 16 = .ok (.ifCond .eq 9, 3) := dk_153 0 9 (dk_at dksX1_leastOf_0 16 rfl rfl)
theorem dX1_leastOf_19 : decode cX1_leastOf 19 = .ok (.sipush (-32768), 3) := dk_17 128 0 (dk_at dksX1_leastOf_0 19 rfl rfl)
theorem dX1_leastOf_22 : decode cX1_leastOf 22 = .ok (.goto 6, 3) := dk_167 0 6 (dk_at dksX1_leastOf_1 0 rfl rfl)
theorem dX1_leastOf_25 : decode cX1_leastOf 25 = .ok (.ldc_w 269, 3) := dk_19 1 13 (dk_at dksX1_leastOf_1 3 rfl rfl)
theorem dX1_leastOf_28 : decode cX1_leastOf 28 = .ok (.ireturn, 1) := dk_172 (dk_at dksX1_leastOf_1 6 rfl rfl)
abbrev cX1_image : ByteArray := prog_1_method_46_code
def yX1_image : MethodName := ⟨RX1, "image", "()I"⟩
def dkwX1_image_0 : List UInt8 := [42, 180, 1, 28, 42, 180, 0, 48, 182, 0, 111, 42, 4, 181, 1, 31, 42, 180, 0, 48, 180, 0, 199, 172]
abbrev dktX1_image_0 : List UInt8 := dkwX1_image_0 ++ []
theorem dksX1_image_0 : cX1_image.data.toList.drop 0 = dktX1_image_0 := by decide +kernel
theorem dX1_image_0 : decode cX1_image 0 = .ok (.aload_n 0, 1) := dk_42 (dk_at dksX1_image_0 0 rfl rfl)
theorem dX1_image_1 : decode cX1_image 1 = .ok (.getfield 284, 3) := dk_180 1 28 (dk_at dksX1_image_0 1 rfl rfl)
theorem dX1_image_4 : decode cX1_image 4 = .ok (.aload_n 0, 1) := dk_42 (dk_at dksX1_image_0 4 rfl rfl)
theorem dX1_image_5 : decode cX1_image 5 = .ok (.getfield 48, 3) := dk_180 0 48 (dk_at dksX1_image_0 5 rfl rfl)
theorem dX1_image_8 : decode cX1_image 8 = .ok (.invokevirtual 111, 3) := dk_182 0 111 (dk_at dksX1_image_0 8 rfl rfl)
theorem dX1_image_11 : decode cX1_image 11 = .ok (.aload_n 0, 1) := dk_42 (dk_at dksX1_image_0 11 rfl rfl)
theorem dX1_image_12 : decode cX1_image 12 = .ok (.iconst 1, 1) := dk_4 (dk_at dksX1_image_0 12 rfl rfl)
theorem dX1_image_13 : decode cX1_image 13 = .ok (.putfield 287, 3) := dk_181 1 31 (dk_at dksX1_image_0 13 rfl rfl)
theorem dX1_image_16 : decode cX1_image 16 = .ok (.aload_n 0, 1) := dk_42 (dk_at dksX1_image_0 16 rfl rfl)
theorem dX1_image_17 : decode cX1_image 17 = .ok (.getfield 48, 3) := dk_180 0 48 (dk_at dksX1_image_0 17 rfl rfl)
theorem dX1_image_20 : decode cX1_image 20 = .ok (.getfield 199, 3) := dk_180 0 199 (dk_at dksX1_image_0 20 rfl rfl)
theorem dX1_image_23 : decode cX1_image 23 = .ok (.ireturn, 1) := dk_172 (dk_at dksX1_image_0 23 rfl rfl)
abbrev cX1_restore : ByteArray := prog_1_method_47_code
def yX1_restore : MethodName := ⟨RX1, "restore", "()I"⟩
def dkwX1_restore_1 : List UInt8 := [180, 0, 48, 180, 0, 199, 172]
abbrev dktX1_restore_1 : List UInt8 := dkwX1_restore_1 ++ []
def dkwX1_restore_0 : List UInt8 := [42, 180, 1, 31, 154, 0, 6, 16, 253, 172, 42, 180, 0, 48, 42, 180, 1, 28, 182, 0, 111, 42]
abbrev dktX1_restore_0 : List UInt8 := dkwX1_restore_0 ++ dktX1_restore_1
theorem dksX1_restore_0 : cX1_restore.data.toList.drop 0 = dktX1_restore_0 := by decide +kernel
theorem dksX1_restore_1 : cX1_restore.data.toList.drop 22 = dktX1_restore_1 := dk_seg dksX1_restore_0 22 rfl rfl
theorem dX1_restore_0 : decode cX1_restore 0 = .ok (.aload_n 0, 1) := dk_42 (dk_at dksX1_restore_0 0 rfl rfl)
theorem dX1_restore_1 : decode cX1_restore 1 = .ok (.getfield 287, 3) := dk_180 1 31 (dk_at dksX1_restore_0 1 rfl rfl)
theorem dX1_restore_4 : decode cX1_restore 4 = .ok (.ifCond .ne 6, 3) := dk_154 0 6 (dk_at dksX1_restore_0 4 rfl rfl)
theorem dX1_restore_7 : decode cX1_restore 7 = .ok (.bipush (-3), 2) := dk_16 253 (dk_at dksX1_restore_0 7 rfl rfl)
theorem dX1_restore_9 : decode cX1_restore 9 = .ok (.ireturn, 1) := dk_172 (dk_at dksX1_restore_0 9 rfl rfl)
theorem dX1_restore_10 : decode cX1_restore 10 = .ok (.aload_n 0, 1) := dk_42 (dk_at dksX1_restore_0 10 rfl rfl)
theorem dX1_restore_11 : decode cX1_restore 11 = .ok (.getfield 48, 3) := dk_180 0 48 (dk_at dksX1_restore_0 11 rfl rfl)
theorem dX1_restore_14 : decode cX1_restore 14 = .ok (.aload_n 0, 1) := dk_42 (dk_at dksX1_restore_0 14 rfl rfl)
theorem dX1_restore_15 : decode cX1_restore 15 = .ok (.getfield 284, 3) := dk_180 1 28 (dk_at dksX1_restore_0 15 rfl rfl)
theorem dX1_restore_18 : decode cX1_restore 18 = .ok (.invokevirtual 111, 3) := dk_182 0 111 (dk_at dksX1_restore_0 18 rfl rfl)
theorem dX1_restore_21 : decode cX1_restore 21 = .ok (.aload_n 0, 1) := dk_42 (dk_at dksX1_restore_0 21 rfl rfl)
theorem dX1_restore_22 : decode cX1_restore 22 = .ok (.getfield 48, 3) := dk_180 0 48 (dk_at dksX1_restore_1 0 rfl rfl)
theorem dX1_restore_25 : decode cX1_restore 25 = .ok (.getfield 199, 3) := dk_180 0 199 (dk_at dksX1_restore_1 3 rfl rfl)
theorem dX1_restore_28 : decode cX1_restore 28 = .ok (.ireturn, 1) := dk_172 (dk_at dksX1_restore_1 6 rfl rfl)
abbrev cX1_count : ByteArray := prog_1_method_48_code
def yX1_count : MethodName := ⟨RX1, "count", "(I)I"⟩
def dkwX1_count_7 : List UInt8 := [172, 2, 172]
abbrev dktX1_count_7 : List UInt8 := dkwX1_count_7 ++ []
def dkwX1_count_6 : List UInt8 := [180, 0, 154, 29, 46, 16, 20, 160, 0, 7, 4, 167, 0, 4, 3, 96, 61, 132, 3, 1, 167, 255, 220, 28]
abbrev dktX1_count_6 : List UInt8 := dkwX1_count_6 ++ dktX1_count_7
def dkwX1_count_5 : List UInt8 := [180, 0, 82, 172, 3, 62, 29, 42, 180, 0, 48, 180, 0, 186, 162, 0, 31, 28, 42, 180, 0, 48]
abbrev dktX1_count_5 : List UInt8 := dkwX1_count_5 ++ dktX1_count_6
def dkwX1_count_4 : List UInt8 := [180, 0, 48, 180, 0, 151, 29, 46, 96, 61, 132, 3, 1, 167, 255, 230, 28, 172, 42, 180, 0, 48]
abbrev dktX1_count_4 : List UInt8 := dkwX1_count_4 ++ dktX1_count_5
def dkwX1_count_3 : List UInt8 := [42, 180, 0, 48, 180, 0, 199, 172, 3, 62, 29, 42, 180, 0, 48, 180, 0, 186, 162, 0, 21, 28, 42]
abbrev dktX1_count_3 : List UInt8 := dkwX1_count_3 ++ dktX1_count_4
def dkwX1_count_2 : List UInt8 := [42, 180, 0, 48, 180, 0, 186, 172, 42, 180, 0, 48, 180, 0, 215, 172, 42, 180, 0, 48, 180, 0, 86, 172]
abbrev dktX1_count_2 : List UInt8 := dkwX1_count_2 ++ dktX1_count_3
def dkwX1_count_1 : List UInt8 := [170, 0, 0, 0, 157, 0, 0, 0, 0, 0, 0, 0, 6, 0, 0, 0, 41, 0, 0, 0, 49, 0, 0, 0, 57, 0, 0, 0, 65, 0, 0, 0, 73, 0, 0, 0, 106, 0, 0, 0, 114]
abbrev dktX1_count_1 : List UInt8 := dkwX1_count_1 ++ dktX1_count_2
def dkwX1_count_0 : List UInt8 := [3, 61, 27]
abbrev dktX1_count_0 : List UInt8 := dkwX1_count_0 ++ dktX1_count_1
theorem dksX1_count_0 : cX1_count.data.toList.drop 0 = dktX1_count_0 := by decide +kernel
theorem dksX1_count_1 : cX1_count.data.toList.drop 3 = dktX1_count_1 := dk_seg dksX1_count_0 3 rfl rfl
theorem dksX1_count_2 : cX1_count.data.toList.drop 44 = dktX1_count_2 := dk_seg dksX1_count_1 41 rfl rfl
theorem dksX1_count_3 : cX1_count.data.toList.drop 68 = dktX1_count_3 := dk_seg dksX1_count_2 24 rfl rfl
theorem dksX1_count_4 : cX1_count.data.toList.drop 91 = dktX1_count_4 := dk_seg dksX1_count_3 23 rfl rfl
theorem dksX1_count_5 : cX1_count.data.toList.drop 113 = dktX1_count_5 := dk_seg dksX1_count_4 22 rfl rfl
theorem dksX1_count_6 : cX1_count.data.toList.drop 135 = dktX1_count_6 := dk_seg dksX1_count_5 22 rfl rfl
theorem dksX1_count_7 : cX1_count.data.toList.drop 159 = dktX1_count_7 := dk_seg dksX1_count_6 24 rfl rfl
theorem dX1_count_0 : decode cX1_count 0 = .ok (.iconst 0, 1) := dk_3 (dk_at dksX1_count_0 0 rfl rfl)
theorem dX1_count_1 : decode cX1_count 1 = .ok (.istore_n 2, 1) := dk_61 (dk_at dksX1_count_0 1 rfl rfl)
theorem dX1_count_2 : decode cX1_count 2 = .ok (.iload_n 1, 1) := dk_27 (dk_at dksX1_count_0 2 rfl rfl)
theorem dX1_count_3 : decode cX1_count 3 = .ok (.tableswitch 157 0 6 #[41, 49, 57, 65, 73, 106, 114], 41) := by decide +kernel
theorem dX1_count_44 : decode cX1_count 44 = .ok (.aload_n 0, 1) := dk_42 (dk_at dksX1_count_2 0 rfl rfl)
theorem dX1_count_45 : decode cX1_count 45 = .ok (.getfield 48, 3) := dk_180 0 48 (dk_at dksX1_count_2 1 rfl rfl)
theorem dX1_count_48 : decode cX1_count 48 = .ok (.getfield 186, 3) := dk_180 0 186 (dk_at dksX1_count_2 4 rfl rfl)
theorem dX1_count_51 : decode cX1_count 51 = .ok (.ireturn, 1) := dk_172 (dk_at dksX1_count_2 7 rfl rfl)
theorem dX1_count_52 : decode cX1_count 52 = .ok (.aload_n 0, 1) := dk_42 (dk_at dksX1_count_2 8 rfl rfl)
theorem dX1_count_53 : decode cX1_count 53 = .ok (.getfield 48, 3) := dk_180 0 48 (dk_at dksX1_count_2 9 rfl rfl)
theorem dX1_count_56 : decode cX1_count 56 = .ok (.getfield 215, 3) := dk_180 0 215 (dk_at dksX1_count_2 12 rfl rfl)
theorem dX1_count_59 : decode cX1_count 59 = .ok (.ireturn, 1) := dk_172 (dk_at dksX1_count_2 15 rfl rfl)
theorem dX1_count_60 : decode cX1_count 60 = .ok (.aload_n 0, 1) := dk_42 (dk_at dksX1_count_2 16 rfl rfl)
theorem dX1_count_61 : decode cX1_count 61 = .ok (.getfield 48, 3) := dk_180 0 48 (dk_at dksX1_count_2 17 rfl rfl)
theorem dX1_count_64 : decode cX1_count 64 = .ok (.getfield 86, 3) := dk_180 0 86 (dk_at dksX1_count_2 20 rfl rfl)
theorem dX1_count_67 : decode cX1_count 67 = .ok (.ireturn, 1) := dk_172 (dk_at dksX1_count_2 23 rfl rfl)
theorem dX1_count_68 : decode cX1_count 68 = .ok (.aload_n 0, 1) := dk_42 (dk_at dksX1_count_3 0 rfl rfl)
theorem dX1_count_69 : decode cX1_count 69 = .ok (.getfield 48, 3) := dk_180 0 48 (dk_at dksX1_count_3 1 rfl rfl)
theorem dX1_count_72 : decode cX1_count 72 = .ok (.getfield 199, 3) := dk_180 0 199 (dk_at dksX1_count_3 4 rfl rfl)
theorem dX1_count_75 : decode cX1_count 75 = .ok (.ireturn, 1) := dk_172 (dk_at dksX1_count_3 7 rfl rfl)
theorem dX1_count_76 : decode cX1_count 76 = .ok (.iconst 0, 1) := dk_3 (dk_at dksX1_count_3 8 rfl rfl)
theorem dX1_count_77 : decode cX1_count 77 = .ok (.istore_n 3, 1) := dk_62 (dk_at dksX1_count_3 9 rfl rfl)
theorem dX1_count_78 : decode cX1_count 78 = .ok (.iload_n 3, 1) := dk_29 (dk_at dksX1_count_3 10 rfl rfl)
theorem dX1_count_79 : decode cX1_count 79 = .ok (.aload_n 0, 1) := dk_42 (dk_at dksX1_count_3 11 rfl rfl)
theorem dX1_count_80 : decode cX1_count 80 = .ok (.getfield 48, 3) := dk_180 0 48 (dk_at dksX1_count_3 12 rfl rfl)
theorem dX1_count_83 : decode cX1_count 83 = .ok (.getfield 186, 3) := dk_180 0 186 (dk_at dksX1_count_3 15 rfl rfl)
theorem dX1_count_86 : decode cX1_count 86 = .ok (.if_icmp .ge 21, 3) := dk_162 0 21 (dk_at dksX1_count_3 18 rfl rfl)
theorem dX1_count_89 : decode cX1_count 89 = .ok (.iload_n 2, 1) := dk_28 (dk_at dksX1_count_3 21 rfl rfl)
theorem dX1_count_90 : decode cX1_count 90 = .ok (.aload_n 0, 1) := dk_42 (dk_at dksX1_count_3 22 rfl rfl)
theorem dX1_count_91 : decode cX1_count 91 = .ok (.getfield 48, 3) := dk_180 0 48 (dk_at dksX1_count_4 0 rfl rfl)
theorem dX1_count_94 : decode cX1_count 94 = .ok (.getfield 151, 3) := dk_180 0 151 (dk_at dksX1_count_4 3 rfl rfl)
theorem dX1_count_97 : decode cX1_count 97 = .ok (.iload_n 3, 1) := dk_29 (dk_at dksX1_count_4 6 rfl rfl)
theorem dX1_count_98 : decode cX1_count 98 = .ok (.iaload, 1) := dk_46 (dk_at dksX1_count_4 7 rfl rfl)
theorem dX1_count_99 : decode cX1_count 99 = .ok (.iadd, 1) := dk_96 (dk_at dksX1_count_4 8 rfl rfl)
theorem dX1_count_100 : decode cX1_count 100 = .ok (.istore_n 2, 1) := dk_61 (dk_at dksX1_count_4 9 rfl rfl)
theorem dX1_count_101 : decode cX1_count 101 = .ok (.iinc 3 1, 3) := dk_132 3 1 (dk_at dksX1_count_4 10 rfl rfl)
theorem dX1_count_104 : decode cX1_count 104 = .ok (.goto (-26), 3) := dk_167 255 230 (dk_at dksX1_count_4 13 rfl rfl)
theorem dX1_count_107 : decode cX1_count 107 = .ok (.iload_n 2, 1) := dk_28 (dk_at dksX1_count_4 16 rfl rfl)
theorem dX1_count_108 : decode cX1_count 108 = .ok (.ireturn, 1) := dk_172 (dk_at dksX1_count_4 17 rfl rfl)
theorem dX1_count_109 : decode cX1_count 109 = .ok (.aload_n 0, 1) := dk_42 (dk_at dksX1_count_4 18 rfl rfl)
theorem dX1_count_110 : decode cX1_count 110 = .ok (.getfield 48, 3) := dk_180 0 48 (dk_at dksX1_count_4 19 rfl rfl)
theorem dX1_count_113 : decode cX1_count 113 = .ok (.getfield 82, 3) := dk_180 0 82 (dk_at dksX1_count_5 0 rfl rfl)
theorem dX1_count_116 : decode cX1_count 116 = .ok (.ireturn, 1) := dk_172 (dk_at dksX1_count_5 3 rfl rfl)
theorem dX1_count_117 : decode cX1_count 117 = .ok (.iconst 0, 1) := dk_3 (dk_at dksX1_count_5 4 rfl rfl)
theorem dX1_count_118 : decode cX1_count 118 = .ok (.istore_n 3, 1) := dk_62 (dk_at dksX1_count_5 5 rfl rfl)
theorem dX1_count_119 : decode cX1_count 119 = .ok (.iload_n 3, 1) := dk_29 (dk_at dksX1_count_5 6 rfl rfl)
theorem dX1_count_120 : decode cX1_count 120 = .ok (.aload_n 0, 1) := dk_42 (dk_at dksX1_count_5 7 rfl rfl)
theorem dX1_count_121 : decode cX1_count 121 = .ok (.getfield 48, 3) := dk_180 0 48 (dk_at dksX1_count_5 8 rfl rfl)
theorem dX1_count_124 : decode cX1_count 124 = .ok (.getfield 186, 3) := dk_180 0 186 (dk_at dksX1_count_5 11 rfl rfl)
theorem dX1_count_127 : decode cX1_count 127 = .ok (.if_icmp .ge 31, 3) := dk_162 0 31 (dk_at dksX1_count_5 14 rfl rfl)
theorem dX1_count_130 : decode cX1_count 130 = .ok (.iload_n 2, 1) := dk_28 (dk_at dksX1_count_5 17 rfl rfl)
theorem dX1_count_131 : decode cX1_count 131 = .ok (.aload_n 0, 1) := dk_42 (dk_at dksX1_count_5 18 rfl rfl)
theorem dX1_count_132 : decode cX1_count 132 = .ok (.getfield 48, 3) := dk_180 0 48 (dk_at dksX1_count_5 19 rfl rfl)
theorem dX1_count_135 : decode cX1_count 135 = .ok (.getfield 154, 3) := dk_180 0 154 (dk_at dksX1_count_6 0 rfl rfl)
theorem dX1_count_138 : decode cX1_count 138 = .ok (.iload_n 3, 1) := dk_29 (dk_at dksX1_count_6 3 rfl rfl)
theorem dX1_count_139 : decode cX1_count 139 = .ok (.iaload, 1) := dk_46 (dk_at dksX1_count_6 4 rfl rfl)
theorem dX1_count_140 : decode cX1_count 140 = .ok (.bipush 20, 2) := dk_16 20 (dk_at dksX1_count_6 5 rfl rfl)
theorem dX1_count_142 : decode cX1_count 142 = .ok (.if_icmp .ne 7, 3) := dk_160 0 7 (dk_at dksX1_count_6 7 rfl rfl)
theorem dX1_count_145 : decode cX1_count 145 = .ok (.iconst 1, 1) := dk_4 (dk_at dksX1_count_6 10 rfl rfl)
theorem dX1_count_146 : decode cX1_count 146 = .ok (.goto 4, 3) := dk_167 0 4 (dk_at dksX1_count_6 11 rfl rfl)
theorem dX1_count_149 : decode cX1_count 149 = .ok (.iconst 0, 1) := dk_3 (dk_at dksX1_count_6 14 rfl rfl)
theorem dX1_count_150 : decode cX1_count 150 = .ok (.iadd, 1) := dk_96 (dk_at dksX1_count_6 15 rfl rfl)
theorem dX1_count_151 : decode cX1_count 151 = .ok (.istore_n 2, 1) := dk_61 (dk_at dksX1_count_6 16 rfl rfl)
theorem dX1_count_152 : decode cX1_count 152 = .ok (.iinc 3 1, 3) := dk_132 3 1 (dk_at dksX1_count_6 17 rfl rfl)
theorem dX1_count_155 : decode cX1_count 155 = .ok (.goto (-36), 3) := dk_167 255 220 (dk_at dksX1_count_6 20 rfl rfl)
theorem dX1_count_158 : decode cX1_count 158 = .ok (.iload_n 2, 1) := dk_28 (dk_at dksX1_count_6 23 rfl rfl)
theorem dX1_count_159 : decode cX1_count 159 = .ok (.ireturn, 1) := dk_172 (dk_at dksX1_count_7 0 rfl rfl)
theorem dX1_count_160 : decode cX1_count 160 = .ok (.iconst (-1), 1) := dk_2 (dk_at dksX1_count_7 1 rfl rfl)
theorem dX1_count_161 : decode cX1_count 161 = .ok (.ireturn, 1) := dk_172 (dk_at dksX1_count_7 2 rfl rfl)
abbrev cX1_init : ByteArray := prog_1_method_49_code
def yX1_init : MethodName := ⟨RX1, "<init>", "()V"⟩
def dkwX1_init_3 : List UInt8 := [27, 187, 0, 101, 89, 183, 1, 40, 83, 132, 1, 1, 167, 255, 234, 177]
abbrev dktX1_init_3 : List UInt8 := dkwX1_init_3 ++ []
def dkwX1_init_2 : List UInt8 := [181, 0, 221, 42, 16, 8, 189, 0, 101, 181, 0, 96, 3, 60, 27, 16, 8, 162, 0, 22, 42, 180, 0, 96]
abbrev dktX1_init_2 : List UInt8 := dkwX1_init_2 ++ dktX1_init_3
def dkwX1_init_1 : List UInt8 := [181, 0, 108, 42, 187, 0, 57, 89, 183, 1, 39, 181, 1, 28, 42, 187, 0, 57, 89, 183, 1, 39]
abbrev dktX1_init_1 : List UInt8 := dkwX1_init_1 ++ dktX1_init_2
def dkwX1_init_0 : List UInt8 := [42, 183, 1, 35, 42, 187, 0, 57, 89, 183, 1, 39, 181, 0, 48, 42, 187, 0, 57, 89, 183, 1, 39]
abbrev dktX1_init_0 : List UInt8 := dkwX1_init_0 ++ dktX1_init_1
theorem dksX1_init_0 : cX1_init.data.toList.drop 0 = dktX1_init_0 := by decide +kernel
theorem dksX1_init_1 : cX1_init.data.toList.drop 23 = dktX1_init_1 := dk_seg dksX1_init_0 23 rfl rfl
theorem dksX1_init_2 : cX1_init.data.toList.drop 45 = dktX1_init_2 := dk_seg dksX1_init_1 22 rfl rfl
theorem dksX1_init_3 : cX1_init.data.toList.drop 69 = dktX1_init_3 := dk_seg dksX1_init_2 24 rfl rfl
theorem dX1_init_0 : decode cX1_init 0 = .ok (.aload_n 0, 1) := dk_42 (dk_at dksX1_init_0 0 rfl rfl)
theorem dX1_init_1 : decode cX1_init 1 = .ok (.invokespecial 291, 3) := dk_183 1 35 (dk_at dksX1_init_0 1 rfl rfl)
theorem dX1_init_4 : decode cX1_init 4 = .ok (.aload_n 0, 1) := dk_42 (dk_at dksX1_init_0 4 rfl rfl)
theorem dX1_init_5 : decode cX1_init 5 = .ok (.new 57, 3) := dk_187 0 57 (dk_at dksX1_init_0 5 rfl rfl)
theorem dX1_init_8 : decode cX1_init 8 = .ok (.dup, 1) := dk_89 (dk_at dksX1_init_0 8 rfl rfl)
theorem dX1_init_9 : decode cX1_init 9 = .ok (.invokespecial 295, 3) := dk_183 1 39 (dk_at dksX1_init_0 9 rfl rfl)
theorem dX1_init_12 : decode cX1_init 12 = .ok (.putfield 48, 3) := dk_181 0 48 (dk_at dksX1_init_0 12 rfl rfl)
theorem dX1_init_15 : decode cX1_init 15 = .ok (.aload_n 0, 1) := dk_42 (dk_at dksX1_init_0 15 rfl rfl)
theorem dX1_init_16 : decode cX1_init 16 = .ok (.new 57, 3) := dk_187 0 57 (dk_at dksX1_init_0 16 rfl rfl)
theorem dX1_init_19 : decode cX1_init 19 = .ok (.dup, 1) := dk_89 (dk_at dksX1_init_0 19 rfl rfl)
theorem dX1_init_20 : decode cX1_init 20 = .ok (.invokespecial 295, 3) := dk_183 1 39 (dk_at dksX1_init_0 20 rfl rfl)
theorem dX1_init_23 : decode cX1_init 23 = .ok (.putfield 108, 3) := dk_181 0 108 (dk_at dksX1_init_1 0 rfl rfl)
theorem dX1_init_26 : decode cX1_init 26 = .ok (.aload_n 0, 1) := dk_42 (dk_at dksX1_init_1 3 rfl rfl)
theorem dX1_init_27 : decode cX1_init 27 = .ok (.new 57, 3) := dk_187 0 57 (dk_at dksX1_init_1 4 rfl rfl)
theorem dX1_init_30 : decode cX1_init 30 = .ok (.dup, 1) := dk_89 (dk_at dksX1_init_1 7 rfl rfl)
theorem dX1_init_31 : decode cX1_init 31 = .ok (.invokespecial 295, 3) := dk_183 1 39 (dk_at dksX1_init_1 8 rfl rfl)
theorem dX1_init_34 : decode cX1_init 34 = .ok (.putfield 284, 3) := dk_181 1 28 (dk_at dksX1_init_1 11 rfl rfl)
theorem dX1_init_37 : decode cX1_init 37 = .ok (.aload_n 0, 1) := dk_42 (dk_at dksX1_init_1 14 rfl rfl)
theorem dX1_init_38 : decode cX1_init 38 = .ok (.new 57, 3) := dk_187 0 57 (dk_at dksX1_init_1 15 rfl rfl)
theorem dX1_init_41 : decode cX1_init 41 = .ok (.dup, 1) := dk_89 (dk_at dksX1_init_1 18 rfl rfl)
theorem dX1_init_42 : decode cX1_init 42 = .ok (.invokespecial 295, 3) := dk_183 1 39 (dk_at dksX1_init_1 19 rfl rfl)
theorem dX1_init_45 : decode cX1_init 45 = .ok (.putfield 221, 3) := dk_181 0 221 (dk_at dksX1_init_2 0 rfl rfl)
theorem dX1_init_48 : decode cX1_init 48 = .ok (.aload_n 0, 1) := dk_42 (dk_at dksX1_init_2 3 rfl rfl)
theorem dX1_init_49 : decode cX1_init 49 = .ok (.bipush 8, 2) := dk_16 8 (dk_at dksX1_init_2 4 rfl rfl)
theorem dX1_init_51 : decode cX1_init 51 = .ok (.anewarray 101, 3) := dk_189 0 101 (dk_at dksX1_init_2 6 rfl rfl)
theorem dX1_init_54 : decode cX1_init 54 = .ok (.putfield 96, 3) := dk_181 0 96 (dk_at dksX1_init_2 9 rfl rfl)
theorem dX1_init_57 : decode cX1_init 57 = .ok (.iconst 0, 1) := dk_3 (dk_at dksX1_init_2 12 rfl rfl)
theorem dX1_init_58 : decode cX1_init 58 = .ok (.istore_n 1, 1) := dk_60 (dk_at dksX1_init_2 13 rfl rfl)
theorem dX1_init_59 : decode cX1_init 59 = .ok (.iload_n 1, 1) := dk_27 (dk_at dksX1_init_2 14 rfl rfl)
theorem dX1_init_60 : decode cX1_init 60 = .ok (.bipush 8, 2) := dk_16 8 (dk_at dksX1_init_2 15 rfl rfl)
theorem dX1_init_62 : decode cX1_init 62 = .ok (.if_icmp .ge 22, 3) := dk_162 0 22 (dk_at dksX1_init_2 17 rfl rfl)
theorem dX1_init_65 : decode cX1_init 65 = .ok (.aload_n 0, 1) := dk_42 (dk_at dksX1_init_2 20 rfl rfl)
theorem dX1_init_66 : decode cX1_init 66 = .ok (.getfield 96, 3) := dk_180 0 96 (dk_at dksX1_init_2 21 rfl rfl)
theorem dX1_init_69 : decode cX1_init 69 = .ok (.iload_n 1, 1) := dk_27 (dk_at dksX1_init_3 0 rfl rfl)
theorem dX1_init_70 : decode cX1_init 70 = .ok (.new 101, 3) := dk_187 0 101 (dk_at dksX1_init_3 1 rfl rfl)
theorem dX1_init_73 : decode cX1_init 73 = .ok (.dup, 1) := dk_89 (dk_at dksX1_init_3 4 rfl rfl)
theorem dX1_init_74 : decode cX1_init 74 = .ok (.invokespecial 296, 3) := dk_183 1 40 (dk_at dksX1_init_3 5 rfl rfl)
theorem dX1_init_77 : decode cX1_init 77 = .ok (.aastore, 1) := dk_83 (dk_at dksX1_init_3 8 rfl rfl)
theorem dX1_init_78 : decode cX1_init 78 = .ok (.iinc 1 1, 3) := dk_132 1 1 (dk_at dksX1_init_3 9 rfl rfl)
theorem dX1_init_81 : decode cX1_init 81 = .ok (.goto (-22), 3) := dk_167 255 234 (dk_at dksX1_init_3 12 rfl rfl)
theorem dX1_init_84 : decode cX1_init 84 = .ok (.return_, 1) := dk_177 (dk_at dksX1_init_3 15 rfl rfl)
abbrev cX1_keep : ByteArray := prog_1_method_50_code
def yX1_keep : MethodName := ⟨RX1, "keep", "(IIII)I"⟩
def dkwX1_keep_2 : List UInt8 := [180, 0, 96, 27, 50, 28, 154, 0, 7, 1, 167, 0, 9, 29, 21, 4, 184, 0, 52, 181, 0, 100, 3, 172]
abbrev dktX1_keep_2 : List UInt8 := dkwX1_keep_2 ++ []
def dkwX1_keep_1 : List UInt8 := [16, 7, 184, 0, 3, 153, 0, 14, 21, 4, 3, 16, 9, 184, 0, 3, 154, 0, 5, 2, 172, 42]
abbrev dktX1_keep_1 : List UInt8 := dkwX1_keep_1 ++ dktX1_keep_2
def dkwX1_keep_0 : List UInt8 := [27, 184, 0, 93, 153, 0, 38, 28, 3, 4, 184, 0, 3, 153, 0, 29, 28, 4, 160, 0, 26, 29, 3]
abbrev dktX1_keep_0 : List UInt8 := dkwX1_keep_0 ++ dktX1_keep_1
theorem dksX1_keep_0 : cX1_keep.data.toList.drop 0 = dktX1_keep_0 := by decide +kernel
theorem dksX1_keep_1 : cX1_keep.data.toList.drop 23 = dktX1_keep_1 := dk_seg dksX1_keep_0 23 rfl rfl
theorem dksX1_keep_2 : cX1_keep.data.toList.drop 45 = dktX1_keep_2 := dk_seg dksX1_keep_1 22 rfl rfl
theorem dX1_keep_0 : decode cX1_keep 0 = .ok (.iload_n 1, 1) := dk_27 (dk_at dksX1_keep_0 0 rfl rfl)
theorem dX1_keep_1 : decode cX1_keep 1 = .ok (.invokestatic 93, 3) := dk_184 0 93 (dk_at dksX1_keep_0 1 rfl rfl)
theorem dX1_keep_4 : decode cX1_keep 4 = .ok (.ifCond .eq 38, 3) := dk_153 0 38 (dk_at dksX1_keep_0 4 rfl rfl)
theorem dX1_keep_7 : decode cX1_keep 7 = .ok (.iload_n 2, 1) := dk_28 (dk_at dksX1_keep_0 7 rfl rfl)
theorem dX1_keep_8 : decode cX1_keep 8 = .ok (.iconst 0, 1) := dk_3 (dk_at dksX1_keep_0 8 rfl rfl)
theorem dX1_keep_9 : decode cX1_keep 9 = .ok (.iconst 1, 1) := dk_4 (dk_at dksX1_keep_0 9 rfl rfl)
theorem dX1_keep_10 : decode cX1_keep 10 = .ok (.invokestatic 3, 3) := dk_184 0 3 (dk_at dksX1_keep_0 10 rfl rfl)
theorem dX1_keep_13 : decode cX1_keep 13 = .ok (.ifCond .eq 29, 3) := dk_153 0 29 (dk_at dksX1_keep_0 13 rfl rfl)
theorem dX1_keep_16 : decode cX1_keep 16 = .ok (.iload_n 2, 1) := dk_28 (dk_at dksX1_keep_0 16 rfl rfl)
theorem dX1_keep_17 : decode cX1_keep 17 = .ok (.iconst 1, 1) := dk_4 (dk_at dksX1_keep_0 17 rfl rfl)
theorem dX1_keep_18 : decode cX1_keep 18 = .ok (.if_icmp .ne 26, 3) := dk_160 0 26 (dk_at dksX1_keep_0 18 rfl rfl)
theorem dX1_keep_21 : decode cX1_keep 21 = .ok (.iload_n 3, 1) := dk_29 (dk_at dksX1_keep_0 21 rfl rfl)
theorem dX1_keep_22 : decode cX1_keep 22 = .ok (.iconst 0, 1) := dk_3 (dk_at dksX1_keep_0 22 rfl rfl)
theorem dX1_keep_23 : decode cX1_keep 23 = .ok (.bipush 7, 2) := dk_16 7 (dk_at dksX1_keep_1 0 rfl rfl)
theorem dX1_keep_25 : decode cX1_keep 25 = .ok (.invokestatic 3, 3) := dk_184 0 3 (dk_at dksX1_keep_1 2 rfl rfl)
theorem dX1_keep_28 : decode cX1_keep 28 = .ok (.ifCond .eq 14, 3) := dk_153 0 14 (dk_at dksX1_keep_1 5 rfl rfl)
theorem dX1_keep_31 : decode cX1_keep 31 = .ok (.iload 4, 2) := dk_21 4 (dk_at dksX1_keep_1 8 rfl rfl)
theorem dX1_keep_33 : decode cX1_keep 33 = .ok (.iconst 0, 1) := dk_3 (dk_at dksX1_keep_1 10 rfl rfl)
theorem dX1_keep_34 : decode cX1_keep 34 = .ok (.bipush 9, 2) := dk_16 9 (dk_at dksX1_keep_1 11 rfl rfl)
theorem dX1_keep_36 : decode cX1_keep 36 = .ok (.invokestatic 3, 3) := dk_184 0 3 (dk_at dksX1_keep_1 13 rfl rfl)
theorem dX1_keep_39 : decode cX1_keep 39 = .ok (.ifCond .ne 5, 3) := dk_154 0 5 (dk_at dksX1_keep_1 16 rfl rfl)
theorem dX1_keep_42 : decode cX1_keep 42 = .ok (.iconst (-1), 1) := dk_2 (dk_at dksX1_keep_1 19 rfl rfl)
theorem dX1_keep_43 : decode cX1_keep 43 = .ok (.ireturn, 1) := dk_172 (dk_at dksX1_keep_1 20 rfl rfl)
theorem dX1_keep_44 : decode cX1_keep 44 = .ok (.aload_n 0, 1) := dk_42 (dk_at dksX1_keep_1 21 rfl rfl)
theorem dX1_keep_45 : decode cX1_keep 45 = .ok (.getfield 96, 3) := dk_180 0 96 (dk_at dksX1_keep_2 0 rfl rfl)
theorem dX1_keep_48 : decode cX1_keep 48 = .ok (.iload_n 1, 1) := dk_27 (dk_at dksX1_keep_2 3 rfl rfl)
theorem dX1_keep_49 : decode cX1_keep 49 = .ok (.aaload, 1) := dk_50 (dk_at dksX1_keep_2 4 rfl rfl)
theorem dX1_keep_50 : decode cX1_keep 50 = .ok (.iload_n 2, 1) := dk_28 (dk_at dksX1_keep_2 5 rfl rfl)
theorem dX1_keep_51 : decode cX1_keep 51 = .ok (.ifCond .ne 7, 3) := dk_154 0 7 (dk_at dksX1_keep_2 6 rfl rfl)
theorem dX1_keep_54 : decode cX1_keep 54 = .ok (.aconst_null, 1) := dk_1 (dk_at dksX1_keep_2 9 rfl rfl)
theorem dX1_keep_55 : decode cX1_keep 55 = .ok (.goto 9, 3) := dk_167 0 9 (dk_at dksX1_keep_2 10 rfl rfl)
theorem dX1_keep_58 : decode cX1_keep 58 = .ok (.iload_n 3, 1) := dk_29 (dk_at dksX1_keep_2 13 rfl rfl)
theorem dX1_keep_59 : decode cX1_keep 59 = .ok (.iload 4, 2) := dk_21 4 (dk_at dksX1_keep_2 14 rfl rfl)
theorem dX1_keep_61 : decode cX1_keep 61 = .ok (.invokestatic 52, 3) := dk_184 0 52 (dk_at dksX1_keep_2 16 rfl rfl)
theorem dX1_keep_64 : decode cX1_keep 64 = .ok (.putfield 100, 3) := dk_181 0 100 (dk_at dksX1_keep_2 19 rfl rfl)
theorem dX1_keep_67 : decode cX1_keep 67 = .ok (.iconst 0, 1) := dk_3 (dk_at dksX1_keep_2 22 rfl rfl)
theorem dX1_keep_68 : decode cX1_keep 68 = .ok (.ireturn, 1) := dk_172 (dk_at dksX1_keep_2 23 rfl rfl)
abbrev cX1_row : ByteArray := prog_1_method_51_code
def yX1_row : MethodName := ⟨RX1, "row", "(III)I"⟩
def dkwX1_row_3 : List UInt8 := [16, 242, 172]
abbrev dktX1_row_3 : List UInt8 := dkwX1_row_3 ++ []
def dkwX1_row_2 : List UInt8 := [167, 0, 8, 29, 188, 10, 58, 4, 42, 180, 0, 96, 27, 50, 25, 4, 181, 0, 100, 3, 172, 58, 4]
abbrev dktX1_row_2 : List UInt8 := dkwX1_row_2 ++ dktX1_row_3
def dkwX1_row_1 : List UInt8 := [28, 154, 0, 11, 29, 188, 8, 58, 4, 167, 0, 21, 28, 4, 160, 0, 11, 29, 188, 9, 58, 4]
abbrev dktX1_row_1 : List UInt8 := dkwX1_row_1 ++ dktX1_row_2
def dkwX1_row_0 : List UInt8 := [27, 184, 0, 93, 153, 0, 18, 28, 3, 5, 184, 0, 3, 153, 0, 9, 29, 16, 100, 164, 0, 5, 2, 172]
abbrev dktX1_row_0 : List UInt8 := dkwX1_row_0 ++ dktX1_row_1
theorem dksX1_row_0 : cX1_row.data.toList.drop 0 = dktX1_row_0 := by decide +kernel
theorem dksX1_row_1 : cX1_row.data.toList.drop 24 = dktX1_row_1 := dk_seg dksX1_row_0 24 rfl rfl
theorem dksX1_row_2 : cX1_row.data.toList.drop 46 = dktX1_row_2 := dk_seg dksX1_row_1 22 rfl rfl
theorem dksX1_row_3 : cX1_row.data.toList.drop 69 = dktX1_row_3 := dk_seg dksX1_row_2 23 rfl rfl
theorem dX1_row_0 : decode cX1_row 0 = .ok (.iload_n 1, 1) := dk_27 (dk_at dksX1_row_0 0 rfl rfl)
theorem dX1_row_1 : decode cX1_row 1 = .ok (.invokestatic 93, 3) := dk_184 0 93 (dk_at dksX1_row_0 1 rfl rfl)
theorem dX1_row_4 : decode cX1_row 4 = .ok (.ifCond .eq 18, 3) := dk_153 0 18 (dk_at dksX1_row_0 4 rfl rfl)
theorem dX1_row_7 : decode cX1_row 7 = .ok (.iload_n 2, 1) := dk_28 (dk_at dksX1_row_0 7 rfl rfl)
theorem dX1_row_8 : decode cX1_row 8 = .ok (.iconst 0, 1) := dk_3 (dk_at dksX1_row_0 8 rfl rfl)
theorem dX1_row_9 : decode cX1_row 9 = .ok (.iconst 2, 1) := dk_5 (dk_at dksX1_row_0 9 rfl rfl)
theorem dX1_row_10 : decode cX1_row 10 = .ok (.invokestatic 3, 3) := dk_184 0 3 (dk_at dksX1_row_0 10 rfl rfl)
theorem dX1_row_13 : decode cX1_row 13 = .ok (.ifCond .eq 9, 3) := dk_153 0 9 (dk_at dksX1_row_0 13 rfl rfl)
theorem dX1_row_16 : decode cX1_row 16 = .ok (.iload_n 3, 1) := dk_29 (dk_at dksX1_row_0 16 rfl rfl)
theorem dX1_row_17 : decode cX1_row 17 = .ok (.bipush 100, 2) := dk_16 100 (dk_at dksX1_row_0 17 rfl rfl)
theorem dX1_row_19 : decode cX1_row 19 = .ok (.if_icmp .le 5, 3) := dk_164 0 5 (dk_at dksX1_row_0 19 rfl rfl)
theorem dX1_row_22 : decode cX1_row 22 = .ok (.iconst (-1), 1) := dk_2 (dk_at dksX1_row_0 22 rfl rfl)
theorem dX1_row_23 : decode cX1_row 23 = .ok (.ireturn, 1) := dk_172 (dk_at dksX1_row_0 23 rfl rfl)
theorem dX1_row_24 : decode cX1_row 24 = .ok (.iload_n 2, 1) := dk_28 (dk_at dksX1_row_1 0 rfl rfl)
theorem dX1_row_25 : decode cX1_row 25 = .ok (.ifCond .ne 11, 3) := dk_154 0 11 (dk_at dksX1_row_1 1 rfl rfl)
theorem dX1_row_28 : decode cX1_row 28 = .ok (.iload_n 3, 1) := dk_29 (dk_at dksX1_row_1 4 rfl rfl)
theorem dX1_row_29 : decode cX1_row 29 = .ok (.newarray .byte, 2) := dk_188_8 (dk_at dksX1_row_1 5 rfl rfl)
theorem dX1_row_31 : decode cX1_row 31 = .ok (.astore 4, 2) := dk_58 4 (dk_at dksX1_row_1 7 rfl rfl)
theorem dX1_row_33 : decode cX1_row 33 = .ok (.goto 21, 3) := dk_167 0 21 (dk_at dksX1_row_1 9 rfl rfl)
theorem dX1_row_36 : decode cX1_row 36 = .ok (.iload_n 2, 1) := dk_28 (dk_at dksX1_row_1 12 rfl rfl)
theorem dX1_row_37 : decode cX1_row 37 = .ok (.iconst 1, 1) := dk_4 (dk_at dksX1_row_1 13 rfl rfl)
theorem dX1_row_38 : decode cX1_row 38 = .ok (.if_icmp .ne 11, 3) := dk_160 0 11 (dk_at dksX1_row_1 14 rfl rfl)
theorem dX1_row_41 : decode cX1_row 41 = .ok (.iload_n 3, 1) := dk_29 (dk_at dksX1_row_1 17 rfl rfl)
theorem dX1_row_42 : decode cX1_row 42 = .ok (.newarray .short, 2) := dk_188_9 (dk_at dksX1_row_1 18 rfl rfl)
theorem dX1_row_44 : decode cX1_row 44 = .ok (.astore 4, 2) := dk_58 4 (dk_at dksX1_row_1 20 rfl rfl)
theorem dX1_row_46 : decode cX1_row 46 = .ok (.goto 8, 3) := dk_167 0 8 (dk_at dksX1_row_2 0 rfl rfl)
theorem dX1_row_49 : decode cX1_row 49 = .ok (.iload_n 3, 1) := dk_29 (dk_at dksX1_row_2 3 rfl rfl)
theorem dX1_row_50 : decode cX1_row 50 = .ok (.newarray .int, 2) := dk_188_10 (dk_at dksX1_row_2 4 rfl rfl)
theorem dX1_row_52 : decode cX1_row 52 = .ok (.astore 4, 2) := dk_58 4 (dk_at dksX1_row_2 6 rfl rfl)
theorem dX1_row_54 : decode cX1_row 54 = .ok (.aload_n 0, 1) := dk_42 (dk_at dksX1_row_2 8 rfl rfl)
theorem dX1_row_55 : decode cX1_row 55 = .ok (.getfield 96, 3) := dk_180 0 96 (dk_at dksX1_row_2 9 rfl rfl)
theorem dX1_row_58 : decode cX1_row 58 = .ok (.iload_n 1, 1) := dk_27 (dk_at dksX1_row_2 12 rfl rfl)
theorem dX1_row_59 : decode cX1_row 59 = .ok (.aaload, 1) := dk_50 (dk_at dksX1_row_2 13 rfl rfl)
theorem dX1_row_60 : decode cX1_row 60 = .ok (.aload 4, 2) := dk_25 4 (dk_at dksX1_row_2 14 rfl rfl)
theorem dX1_row_62 : decode cX1_row 62 = .ok (.putfield 100, 3) := dk_181 0 100 (dk_at dksX1_row_2 16 rfl rfl)
theorem dX1_row_65 : decode cX1_row 65 = .ok (.iconst 0, 1) := dk_3 (dk_at dksX1_row_2 19 rfl rfl)
theorem dX1_row_66 : decode cX1_row 66 = .ok (.ireturn, 1) := dk_172 (dk_at dksX1_row_2 20 rfl rfl)
theorem dX1_row_67 : decode cX1_row 67 = .ok (.astore 4, 2) := dk_58 4 (dk_at dksX1_row_2 21 rfl rfl)
theorem dX1_row_69 : decode cX1_row 69 = .ok (.bipush (-14), 2) := dk_16 242 (dk_at dksX1_row_3 0 rfl rfl)
theorem dX1_row_71 : decode cX1_row 71 = .ok (.ireturn, 1) := dk_172 (dk_at dksX1_row_3 2 rfl rfl)
abbrev cX1_put : ByteArray := prog_1_method_52_code
def yX1_put : MethodName := ⟨RX1, "put", "(III)I"⟩
def dkwX1_put_3 : List UInt8 := [25, 4, 192, 1, 6, 28, 29, 79, 3, 172, 58, 5, 16, 244, 172, 58, 5, 16, 243, 172]
abbrev dktX1_put_3 : List UInt8 := dkwX1_put_3 ++ []
def dkwX1_put_2 : List UInt8 := [167, 0, 31, 25, 4, 193, 1, 4, 153, 0, 15, 25, 4, 192, 1, 4, 28, 29, 147, 86, 167, 0, 11]
abbrev dktX1_put_2 : List UInt8 := dkwX1_put_2 ++ dktX1_put_3
def dkwX1_put_1 : List UInt8 := [199, 0, 6, 16, 245, 172, 25, 4, 193, 0, 106, 153, 0, 15, 25, 4, 192, 0, 106, 28, 29, 145, 84]
abbrev dktX1_put_1 : List UInt8 := dkwX1_put_1 ++ dktX1_put_2
def dkwX1_put_0 : List UInt8 := [27, 184, 0, 93, 154, 0, 5, 2, 172, 42, 180, 0, 96, 27, 50, 180, 0, 100, 58, 4, 25, 4]
abbrev dktX1_put_0 : List UInt8 := dkwX1_put_0 ++ dktX1_put_1
theorem dksX1_put_0 : cX1_put.data.toList.drop 0 = dktX1_put_0 := by decide +kernel
theorem dksX1_put_1 : cX1_put.data.toList.drop 22 = dktX1_put_1 := dk_seg dksX1_put_0 22 rfl rfl
theorem dksX1_put_2 : cX1_put.data.toList.drop 45 = dktX1_put_2 := dk_seg dksX1_put_1 23 rfl rfl
theorem dksX1_put_3 : cX1_put.data.toList.drop 68 = dktX1_put_3 := dk_seg dksX1_put_2 23 rfl rfl
theorem dX1_put_0 : decode cX1_put 0 = .ok (.iload_n 1, 1) := dk_27 (dk_at dksX1_put_0 0 rfl rfl)
theorem dX1_put_1 : decode cX1_put 1 = .ok (.invokestatic 93, 3) := dk_184 0 93 (dk_at dksX1_put_0 1 rfl rfl)
theorem dX1_put_4 : decode cX1_put 4 = .ok (.ifCond .ne 5, 3) := dk_154 0 5 (dk_at dksX1_put_0 4 rfl rfl)
theorem dX1_put_7 : decode cX1_put 7 = .ok (.iconst (-1), 1) := dk_2 (dk_at dksX1_put_0 7 rfl rfl)
theorem dX1_put_8 : decode cX1_put 8 = .ok (.ireturn, 1) := dk_172 (dk_at dksX1_put_0 8 rfl rfl)
theorem dX1_put_9 : decode cX1_put 9 = .ok (.aload_n 0, 1) := dk_42 (dk_at dksX1_put_0 9 rfl rfl)
theorem dX1_put_10 : decode cX1_put 10 = .ok (.getfield 96, 3) := dk_180 0 96 (dk_at dksX1_put_0 10 rfl rfl)
theorem dX1_put_13 : decode cX1_put 13 = .ok (.iload_n 1, 1) := dk_27 (dk_at dksX1_put_0 13 rfl rfl)
theorem dX1_put_14 : decode cX1_put 14 = .ok (.aaload, 1) := dk_50 (dk_at dksX1_put_0 14 rfl rfl)
theorem dX1_put_15 : decode cX1_put 15 = .ok (.getfield 100, 3) := dk_180 0 100 (dk_at dksX1_put_0 15 rfl rfl)
theorem dX1_put_18 : decode cX1_put 18 = .ok (.astore 4, 2) := dk_58 4 (dk_at dksX1_put_0 18 rfl rfl)
theorem dX1_put_20 : decode cX1_put 20 = .ok (.aload 4, 2) := dk_25 4 (dk_at dksX1_put_0 20 rfl rfl)
theorem dX1_put_22 : decode cX1_put 22 = .ok (.ifnonnull 6, 3) := dk_199 0 6 (dk_at dksX1_put_1 0 rfl rfl)
theorem dX1_put_25 : decode cX1_put 25 = .ok (.bipush (-11), 2) := dk_16 245 (dk_at dksX1_put_1 3 rfl rfl)
theorem dX1_put_27 : decode cX1_put 27 = .ok (.ireturn, 1) := dk_172 (dk_at dksX1_put_1 5 rfl rfl)
theorem dX1_put_28 : decode cX1_put 28 = .ok (.aload 4, 2) := dk_25 4 (dk_at dksX1_put_1 6 rfl rfl)
theorem dX1_put_30 : decode cX1_put 30 = .ok (.instanceof 106, 3) := dk_193 0 106 (dk_at dksX1_put_1 8 rfl rfl)
theorem dX1_put_33 : decode cX1_put 33 = .ok (.ifCond .eq 15, 3) := dk_153 0 15 (dk_at dksX1_put_1 11 rfl rfl)
theorem dX1_put_36 : decode cX1_put 36 = .ok (.aload 4, 2) := dk_25 4 (dk_at dksX1_put_1 14 rfl rfl)
theorem dX1_put_38 : decode cX1_put 38 = .ok (.checkcast 106, 3) := dk_192 0 106 (dk_at dksX1_put_1 16 rfl rfl)
theorem dX1_put_41 : decode cX1_put 41 = .ok (.iload_n 2, 1) := dk_28 (dk_at dksX1_put_1 19 rfl rfl)
theorem dX1_put_42 : decode cX1_put 42 = .ok (.iload_n 3, 1) := dk_29 (dk_at dksX1_put_1 20 rfl rfl)
theorem dX1_put_43 : decode cX1_put 43 = .ok (.i2b, 1) := dk_145 (dk_at dksX1_put_1 21 rfl rfl)
theorem dX1_put_44 : decode cX1_put 44 = .ok (.bastore, 1) := dk_84 (dk_at dksX1_put_1 22 rfl rfl)
theorem dX1_put_45 : decode cX1_put 45 = .ok (.goto 31, 3) := dk_167 0 31 (dk_at dksX1_put_2 0 rfl rfl)
theorem dX1_put_48 : decode cX1_put 48 = .ok (.aload 4, 2) := dk_25 4 (dk_at dksX1_put_2 3 rfl rfl)
theorem dX1_put_50 : decode cX1_put 50 = .ok (.instanceof 260, 3) := dk_193 1 4 (dk_at dksX1_put_2 5 rfl rfl)
theorem dX1_put_53 : decode cX1_put 53 = .ok (.ifCond .eq 15, 3) := dk_153 0 15 (dk_at dksX1_put_2 8 rfl rfl)
theorem dX1_put_56 : decode cX1_put 56 = .ok (.aload 4, 2) := dk_25 4 (dk_at dksX1_put_2 11 rfl rfl)
theorem dX1_put_58 : decode cX1_put 58 = .ok (.checkcast 260, 3) := dk_192 1 4 (dk_at dksX1_put_2 13 rfl rfl)
theorem dX1_put_61 : decode cX1_put 61 = .ok (.iload_n 2, 1) := dk_28 (dk_at dksX1_put_2 16 rfl rfl)
theorem dX1_put_62 : decode cX1_put 62 = .ok (.iload_n 3, 1) := dk_29 (dk_at dksX1_put_2 17 rfl rfl)
theorem dX1_put_63 : decode cX1_put 63 = .ok (.i2s, 1) := dk_147 (dk_at dksX1_put_2 18 rfl rfl)
theorem dX1_put_64 : decode cX1_put 64 = .ok (.sastore, 1) := dk_86 (dk_at dksX1_put_2 19 rfl rfl)
theorem dX1_put_65 : decode cX1_put 65 = .ok (.goto 11, 3) := dk_167 0 11 (dk_at dksX1_put_2 20 rfl rfl)
theorem dX1_put_68 : decode cX1_put 68 = .ok (.aload 4, 2) := dk_25 4 (dk_at dksX1_put_3 0 rfl rfl)
theorem dX1_put_70 : decode cX1_put 70 = .ok (.checkcast 262, 3) := dk_192 1 6 (dk_at dksX1_put_3 2 rfl rfl)
theorem dX1_put_73 : decode cX1_put 73 = .ok (.iload_n 2, 1) := dk_28 (dk_at dksX1_put_3 5 rfl rfl)
theorem dX1_put_74 : decode cX1_put 74 = .ok (.iload_n 3, 1) := dk_29 (dk_at dksX1_put_3 6 rfl rfl)
theorem dX1_put_75 : decode cX1_put 75 = .ok (.iastore, 1) := dk_79 (dk_at dksX1_put_3 7 rfl rfl)
theorem dX1_put_76 : decode cX1_put 76 = .ok (.iconst 0, 1) := dk_3 (dk_at dksX1_put_3 8 rfl rfl)
theorem dX1_put_77 : decode cX1_put 77 = .ok (.ireturn, 1) := dk_172 (dk_at dksX1_put_3 9 rfl rfl)
theorem dX1_put_78 : decode cX1_put 78 = .ok (.astore 5, 2) := dk_58 5 (dk_at dksX1_put_3 10 rfl rfl)
theorem dX1_put_80 : decode cX1_put 80 = .ok (.bipush (-12), 2) := dk_16 244 (dk_at dksX1_put_3 12 rfl rfl)
theorem dX1_put_82 : decode cX1_put 82 = .ok (.ireturn, 1) := dk_172 (dk_at dksX1_put_3 14 rfl rfl)
theorem dX1_put_83 : decode cX1_put 83 = .ok (.astore 5, 2) := dk_58 5 (dk_at dksX1_put_3 15 rfl rfl)
theorem dX1_put_85 : decode cX1_put 85 = .ok (.bipush (-13), 2) := dk_16 243 (dk_at dksX1_put_3 17 rfl rfl)
theorem dX1_put_87 : decode cX1_put 87 = .ok (.ireturn, 1) := dk_172 (dk_at dksX1_put_3 19 rfl rfl)
abbrev cX1_copy : ByteArray := prog_1_method_55_code
def yX1_copy : MethodName := ⟨RX1, "copy", "(IIIII)I"⟩
def dkwX1_copy_4 : List UInt8 := [58, 8, 16, 243, 172]
abbrev dktX1_copy_4 : List UInt8 := dkwX1_copy_4 ++ []
def dkwX1_copy_3 : List UInt8 := [184, 1, 14, 159, 0, 6, 16, 244, 172, 25, 6, 28, 25, 7, 21, 4, 21, 5, 184, 1, 55, 21, 5, 172]
abbrev dktX1_copy_3 : List UInt8 := dkwX1_copy_3 ++ dktX1_copy_4
def dkwX1_copy_2 : List UInt8 := [199, 0, 6, 16, 245, 172, 25, 6, 184, 1, 14, 2, 159, 0, 16, 25, 6, 184, 1, 14, 25, 7]
abbrev dktX1_copy_2 : List UInt8 := dkwX1_copy_2 ++ dktX1_copy_3
def dkwX1_copy_1 : List UInt8 := [180, 0, 100, 58, 6, 42, 180, 0, 96, 29, 50, 180, 0, 100, 58, 7, 25, 6, 198, 0, 8, 25, 7]
abbrev dktX1_copy_1 : List UInt8 := dkwX1_copy_1 ++ dktX1_copy_2
def dkwX1_copy_0 : List UInt8 := [27, 184, 0, 93, 153, 0, 10, 29, 184, 0, 93, 154, 0, 5, 2, 172, 42, 180, 0, 96, 27, 50]
abbrev dktX1_copy_0 : List UInt8 := dkwX1_copy_0 ++ dktX1_copy_1
theorem dksX1_copy_0 : cX1_copy.data.toList.drop 0 = dktX1_copy_0 := by decide +kernel
theorem dksX1_copy_1 : cX1_copy.data.toList.drop 22 = dktX1_copy_1 := dk_seg dksX1_copy_0 22 rfl rfl
theorem dksX1_copy_2 : cX1_copy.data.toList.drop 45 = dktX1_copy_2 := dk_seg dksX1_copy_1 23 rfl rfl
theorem dksX1_copy_3 : cX1_copy.data.toList.drop 67 = dktX1_copy_3 := dk_seg dksX1_copy_2 22 rfl rfl
theorem dksX1_copy_4 : cX1_copy.data.toList.drop 91 = dktX1_copy_4 := dk_seg dksX1_copy_3 24 rfl rfl
theorem dX1_copy_0 : decode cX1_copy 0 = .ok (.iload_n 1, 1) := dk_27 (dk_at dksX1_copy_0 0 rfl rfl)
theorem dX1_copy_1 : decode cX1_copy 1 = .ok (.invokestatic 93, 3) := dk_184 0 93 (dk_at dksX1_copy_0 1 rfl rfl)
theorem dX1_copy_4 : decode cX1_copy 4 = .ok (.ifCond .eq 10, 3) := dk_153 0 10 (dk_at dksX1_copy_0 4 rfl rfl)
theorem dX1_copy_7 : decode cX1_copy 7 = .ok (.iload_n 3, 1) := dk_29 (dk_at dksX1_copy_0 7 rfl rfl)
theorem dX1_copy_8 : decode cX1_copy 8 = .ok (.invokestatic 93, 3) := dk_184 0 93 (dk_at dksX1_copy_0 8 rfl rfl)
theorem dX1_copy_11 : decode cX1_copy 11 = .ok (.ifCond .ne 5, 3) := dk_154 0 5 (dk_at dksX1_copy_0 11 rfl rfl)
theorem dX1_copy_14 : decode cX1_copy 14 = .ok (.iconst (-1), 1) := dk_2 (dk_at dksX1_copy_0 14 rfl rfl)
theorem dX1_copy_15 : decode cX1_copy 15 = .ok (.ireturn, 1) := dk_172 (dk_at dksX1_copy_0 15 rfl rfl)
theorem dX1_copy_16 : decode cX1_copy 16 = .ok (.aload_n 0, 1) := dk_42 (dk_at dksX1_copy_0 16 rfl rfl)
theorem dX1_copy_17 : decode cX1_copy 17 = .ok (.getfield 96, 3) := dk_180 0 96 (dk_at dksX1_copy_0 17 rfl rfl)
theorem dX1_copy_20 : decode cX1_copy 20 = .ok (.iload_n 1, 1) := dk_27 (dk_at dksX1_copy_0 20 rfl rfl)
theorem dX1_copy_21 : decode cX1_copy 21 = .ok (.aaload, 1) := dk_50 (dk_at dksX1_copy_0 21 rfl rfl)
theorem dX1_copy_22 : decode cX1_copy 22 = .ok (.getfield 100, 3) := dk_180 0 100 (dk_at dksX1_copy_1 0 rfl rfl)
theorem dX1_copy_25 : decode cX1_copy 25 = .ok (.astore 6, 2) := dk_58 6 (dk_at dksX1_copy_1 3 rfl rfl)
theorem dX1_copy_27 : decode cX1_copy 27 = .ok (.aload_n 0, 1) := dk_42 (dk_at dksX1_copy_1 5 rfl rfl)
theorem dX1_copy_28 : decode cX1_copy 28 = .ok (.getfield 96, 3) := dk_180 0 96 (dk_at dksX1_copy_1 6 rfl rfl)
theorem dX1_copy_31 : decode cX1_copy 31 = .ok (.iload_n 3, 1) := dk_29 (dk_at dksX1_copy_1 9 rfl rfl)
theorem dX1_copy_32 : decode cX1_copy 32 = .ok (.aaload, 1) := dk_50 (dk_at dksX1_copy_1 10 rfl rfl)
theorem dX1_copy_33 : decode cX1_copy 33 = .ok (.getfield 100, 3) := dk_180 0 100 (dk_at dksX1_copy_1 11 rfl rfl)
theorem dX1_copy_36 : decode cX1_copy 36 = .ok (.astore 7, 2) := dk_58 7 (dk_at dksX1_copy_1 14 rfl rfl)
theorem dX1_copy_38 : decode cX1_copy 38 = .ok (.aload 6, 2) := dk_25 6 (dk_at dksX1_copy_1 16 rfl rfl)
theorem dX1_copy_40 : decode cX1_copy 40 = .ok (.ifnull 8, 3) := dk_198 0 8 (dk_at dksX1_copy_1 18 rfl rfl)
theorem dX1_copy_43 : decode cX1_copy 43 = .ok (.aload 7, 2) := dk_25 7 (dk_at dksX1_copy_1 21 rfl rfl)
theorem dX1_copy_45 : decode cX1_copy 45 = .ok (.ifnonnull 6, 3) := dk_199 0 6 (dk_at dksX1_copy_2 0 rfl rfl)
theorem dX1_copy_48 : decode cX1_copy 48 = .ok (.bipush (-11), 2) := dk_16 245 (dk_at dksX1_copy_2 3 rfl rfl)
theorem dX1_copy_50 : decode cX1_copy 50 = .ok (.ireturn, 1) := dk_172 (dk_at dksX1_copy_2 5 rfl rfl)
theorem dX1_copy_51 : decode cX1_copy 51 = .ok (.aload 6, 2) := dk_25 6 (dk_at dksX1_copy_2 6 rfl rfl)
theorem dX1_copy_53 : decode cX1_copy 53 = .ok (.invokestatic 270, 3) := dk_184 1 14 (dk_at dksX1_copy_2 8 rfl rfl)
theorem dX1_copy_56 : decode cX1_copy 56 = .ok (.iconst (-1), 1) := dk_2 (dk_at dksX1_copy_2 11 rfl rfl)
theorem dX1_copy_57 : decode cX1_copy 57 = .ok (.if_icmp .eq 16, 3) := dk_159 0 16 (dk_at dksX1_copy_2 12 rfl rfl)
theorem dX1_copy_60 : decode cX1_copy 60 = .ok (.aload 6, 2) := dk_25 6 (dk_at dksX1_copy_2 15 rfl rfl)
theorem dX1_copy_62 : decode cX1_copy 62 = .ok (.invokestatic 270, 3) := dk_184 1 14 (dk_at dksX1_copy_2 17 rfl rfl)
theorem dX1_copy_65 : decode cX1_copy 65 = .ok (.aload 7, 2) := dk_25 7 (dk_at dksX1_copy_2 20 rfl rfl)
theorem dX1_copy_67 : decode cX1_copy 67 = .ok (.invokestatic 270, 3) := dk_184 1 14 (dk_at dksX1_copy_3 0 rfl rfl)
theorem dX1_copy_70 : decode cX1_copy 70 = .ok (.if_icmp .eq 6, 3) := dk_159 0 6 (dk_at dksX1_copy_3 3 rfl rfl)
theorem dX1_copy_73 : decode cX1_copy 73 = .ok (.bipush (-12), 2) := dk_16 244 (dk_at dksX1_copy_3 6 rfl rfl)
theorem dX1_copy_75 : decode cX1_copy 75 = .ok (.ireturn, 1) := dk_172 (dk_at dksX1_copy_3 8 rfl rfl)
theorem dX1_copy_76 : decode cX1_copy 76 = .ok (.aload 6, 2) := dk_25 6 (dk_at dksX1_copy_3 9 rfl rfl)
theorem dX1_copy_78 : decode cX1_copy 78 = .ok (.iload_n 2, 1) := dk_28 (dk_at dksX1_copy_3 11 rfl rfl)
theorem dX1_copy_79 : decode cX1_copy 79 = .ok (.aload 7, 2) := dk_25 7 (dk_at dksX1_copy_3 12 rfl rfl)
theorem dX1_copy_81 : decode cX1_copy 81 = .ok (.iload 4, 2) := dk_21 4 (dk_at dksX1_copy_3 14 rfl rfl)
theorem dX1_copy_83 : decode cX1_copy 83 = .ok (.iload 5, 2) := dk_21 5 (dk_at dksX1_copy_3 16 rfl rfl)
theorem dX1_copy_85 : decode cX1_copy 85 = .ok (.invokestatic 311, 3) := dk_184 1 55 (dk_at dksX1_copy_3 18 rfl rfl)
theorem dX1_copy_88 : decode cX1_copy 88 = .ok (.iload 5, 2) := dk_21 5 (dk_at dksX1_copy_3 21 rfl rfl)
theorem dX1_copy_90 : decode cX1_copy 90 = .ok (.ireturn, 1) := dk_172 (dk_at dksX1_copy_3 23 rfl rfl)
theorem dX1_copy_91 : decode cX1_copy 91 = .ok (.astore 8, 2) := dk_58 8 (dk_at dksX1_copy_4 0 rfl rfl)
theorem dX1_copy_93 : decode cX1_copy 93 = .ok (.bipush (-13), 2) := dk_16 243 (dk_at dksX1_copy_4 2 rfl rfl)
theorem dX1_copy_95 : decode cX1_copy 95 = .ok (.ireturn, 1) := dk_172 (dk_at dksX1_copy_4 4 rfl rfl)
abbrev cX1_cost : ByteArray := prog_1_method_56_code
def yX1_cost : MethodName := ⟨RX1, "cost", "(I)I"⟩
def dkwX1_cost_1 : List UInt8 := [172, 77, 16, 245, 172, 77, 16, 244, 172]
abbrev dktX1_cost_1 : List UInt8 := dkwX1_cost_1 ++ []
def dkwX1_cost_0 : List UInt8 := [27, 184, 0, 93, 154, 0, 5, 2, 172, 42, 180, 0, 96, 27, 50, 180, 0, 100, 192, 0, 7, 182, 1, 63]
abbrev dktX1_cost_0 : List UInt8 := dkwX1_cost_0 ++ dktX1_cost_1
theorem dksX1_cost_0 : cX1_cost.data.toList.drop 0 = dktX1_cost_0 := by decide +kernel
theorem dksX1_cost_1 : cX1_cost.data.toList.drop 24 = dktX1_cost_1 := dk_seg dksX1_cost_0 24 rfl rfl
theorem dX1_cost_0 : decode cX1_cost 0 = .ok (.iload_n 1, 1) := dk_27 (dk_at dksX1_cost_0 0 rfl rfl)
theorem dX1_cost_1 : decode cX1_cost 1 = .ok (.invokestatic 93, 3) := dk_184 0 93 (dk_at dksX1_cost_0 1 rfl rfl)
theorem dX1_cost_4 : decode cX1_cost 4 = .ok (.ifCond .ne 5, 3) := dk_154 0 5 (dk_at dksX1_cost_0 4 rfl rfl)
theorem dX1_cost_7 : decode cX1_cost 7 = .ok (.iconst (-1), 1) := dk_2 (dk_at dksX1_cost_0 7 rfl rfl)
theorem dX1_cost_8 : decode cX1_cost 8 = .ok (.ireturn, 1) := dk_172 (dk_at dksX1_cost_0 8 rfl rfl)
theorem dX1_cost_9 : decode cX1_cost 9 = .ok (.aload_n 0, 1) := dk_42 (dk_at dksX1_cost_0 9 rfl rfl)
theorem dX1_cost_10 : decode cX1_cost 10 = .ok (.getfield 96, 3) := dk_180 0 96 (dk_at dksX1_cost_0 10 rfl rfl)
theorem dX1_cost_13 : decode cX1_cost 13 = .ok (.iload_n 1, 1) := dk_27 (dk_at dksX1_cost_0 13 rfl rfl)
theorem dX1_cost_14 : decode cX1_cost 14 = .ok (.aaload, 1) := dk_50 (dk_at dksX1_cost_0 14 rfl rfl)
theorem dX1_cost_15 : decode cX1_cost 15 = .ok (.getfield 100, 3) := dk_180 0 100 (dk_at dksX1_cost_0 15 rfl rfl)
theorem dX1_cost_18 : decode cX1_cost 18 = .ok (.checkcast 7, 3) := dk_192 0 7 (dk_at dksX1_cost_0 18 rfl rfl)
theorem dX1_cost_21 : decode cX1_cost 21 = .ok (.invokevirtual 319, 3) := dk_182 1 63 (dk_at dksX1_cost_0 21 rfl rfl)
theorem dX1_cost_24 : decode cX1_cost 24 = .ok (.ireturn, 1) := dk_172 (dk_at dksX1_cost_1 0 rfl rfl)
theorem dX1_cost_25 : decode cX1_cost 25 = .ok (.astore_n 2, 1) := dk_77 (dk_at dksX1_cost_1 1 rfl rfl)
theorem dX1_cost_26 : decode cX1_cost 26 = .ok (.bipush (-11), 2) := dk_16 245 (dk_at dksX1_cost_1 2 rfl rfl)
theorem dX1_cost_28 : decode cX1_cost 28 = .ok (.ireturn, 1) := dk_172 (dk_at dksX1_cost_1 4 rfl rfl)
theorem dX1_cost_29 : decode cX1_cost 29 = .ok (.astore_n 2, 1) := dk_77 (dk_at dksX1_cost_1 5 rfl rfl)
theorem dX1_cost_30 : decode cX1_cost 30 = .ok (.bipush (-12), 2) := dk_16 244 (dk_at dksX1_cost_1 6 rfl rfl)
theorem dX1_cost_32 : decode cX1_cost 32 = .ok (.ireturn, 1) := dk_172 (dk_at dksX1_cost_1 8 rfl rfl)
abbrev cX1_toss : ByteArray := prog_1_method_57_code
def yX1_toss : MethodName := ⟨RX1, "toss", "(I)I"⟩
def dkwX1_toss_2 : List UInt8 := [16, 241, 172, 77, 16, 244, 172]
abbrev dktX1_toss_2 : List UInt8 := dkwX1_toss_2 ++ []
def dkwX1_toss_1 : List UInt8 := [42, 180, 0, 96, 27, 50, 180, 0, 100, 192, 0, 7, 182, 1, 66, 191, 77, 44, 180, 1, 72, 172, 77]
abbrev dktX1_toss_1 : List UInt8 := dkwX1_toss_1 ++ dktX1_toss_2
def dkwX1_toss_0 : List UInt8 := [27, 184, 0, 93, 154, 0, 5, 2, 172, 42, 180, 0, 96, 27, 50, 180, 0, 100, 199, 0, 6, 16, 245, 172]
abbrev dktX1_toss_0 : List UInt8 := dkwX1_toss_0 ++ dktX1_toss_1
theorem dksX1_toss_0 : cX1_toss.data.toList.drop 0 = dktX1_toss_0 := by decide +kernel
theorem dksX1_toss_1 : cX1_toss.data.toList.drop 24 = dktX1_toss_1 := dk_seg dksX1_toss_0 24 rfl rfl
theorem dksX1_toss_2 : cX1_toss.data.toList.drop 47 = dktX1_toss_2 := dk_seg dksX1_toss_1 23 rfl rfl
theorem dX1_toss_0 : decode cX1_toss 0 = .ok (.iload_n 1, 1) := dk_27 (dk_at dksX1_toss_0 0 rfl rfl)
theorem dX1_toss_1 : decode cX1_toss 1 = .ok (.invokestatic 93, 3) := dk_184 0 93 (dk_at dksX1_toss_0 1 rfl rfl)
theorem dX1_toss_4 : decode cX1_toss 4 = .ok (.ifCond .ne 5, 3) := dk_154 0 5 (dk_at dksX1_toss_0 4 rfl rfl)
theorem dX1_toss_7 : decode cX1_toss 7 = .ok (.iconst (-1), 1) := dk_2 (dk_at dksX1_toss_0 7 rfl rfl)
theorem dX1_toss_8 : decode cX1_toss 8 = .ok (.ireturn, 1) := dk_172 (dk_at dksX1_toss_0 8 rfl rfl)
theorem dX1_toss_9 : decode cX1_toss 9 = .ok (.aload_n 0, 1) := dk_42 (dk_at dksX1_toss_0 9 rfl rfl)
theorem dX1_toss_10 : decode cX1_toss 10 = .ok (.getfield 96, 3) := dk_180 0 96 (dk_at dksX1_toss_0 10 rfl rfl)
theorem dX1_toss_13 : decode cX1_toss 13 = .ok (.iload_n 1, 1) := dk_27 (dk_at dksX1_toss_0 13 rfl rfl)
theorem dX1_toss_14 : decode cX1_toss 14 = .ok (.aaload, 1) := dk_50 (dk_at dksX1_toss_0 14 rfl rfl)
theorem dX1_toss_15 : decode cX1_toss 15 = .ok (.getfield 100, 3) := dk_180 0 100 (dk_at dksX1_toss_0 15 rfl rfl)
theorem dX1_toss_18 : decode cX1_toss 18 = .ok (.ifnonnull 6, 3) := dk_199 0 6 (dk_at dksX1_toss_0 18 rfl rfl)
theorem dX1_toss_21 : decode cX1_toss 21 = .ok (.bipush (-11), 2) := dk_16 245 (dk_at dksX1_toss_0 21 rfl rfl)
theorem dX1_toss_23 : decode cX1_toss 23 = .ok (.ireturn, 1) := dk_172 (dk_at dksX1_toss_0 23 rfl rfl)
theorem dX1_toss_24 : decode cX1_toss 24 = .ok (.aload_n 0, 1) := dk_42 (dk_at dksX1_toss_1 0 rfl rfl)
theorem dX1_toss_25 : decode cX1_toss 25 = .ok (.getfield 96, 3) := dk_180 0 96 (dk_at dksX1_toss_1 1 rfl rfl)
theorem dX1_toss_28 : decode cX1_toss 28 = .ok (.iload_n 1, 1) := dk_27 (dk_at dksX1_toss_1 4 rfl rfl)
theorem dX1_toss_29 : decode cX1_toss 29 = .ok (.aaload, 1) := dk_50 (dk_at dksX1_toss_1 5 rfl rfl)
theorem dX1_toss_30 : decode cX1_toss 30 = .ok (.getfield 100, 3) := dk_180 0 100 (dk_at dksX1_toss_1 6 rfl rfl)
theorem dX1_toss_33 : decode cX1_toss 33 = .ok (.checkcast 7, 3) := dk_192 0 7 (dk_at dksX1_toss_1 9 rfl rfl)
theorem dX1_toss_36 : decode cX1_toss 36 = .ok (.invokevirtual 322, 3) := dk_182 1 66 (dk_at dksX1_toss_1 12 rfl rfl)
theorem dX1_toss_39 : decode cX1_toss 39 = .ok (.athrow, 1) := dk_191 (dk_at dksX1_toss_1 15 rfl rfl)
theorem dX1_toss_40 : decode cX1_toss 40 = .ok (.astore_n 2, 1) := dk_77 (dk_at dksX1_toss_1 16 rfl rfl)
theorem dX1_toss_41 : decode cX1_toss 41 = .ok (.aload_n 2, 1) := dk_44 (dk_at dksX1_toss_1 17 rfl rfl)
theorem dX1_toss_42 : decode cX1_toss 42 = .ok (.getfield 328, 3) := dk_180 1 72 (dk_at dksX1_toss_1 18 rfl rfl)
theorem dX1_toss_45 : decode cX1_toss 45 = .ok (.ireturn, 1) := dk_172 (dk_at dksX1_toss_1 21 rfl rfl)
theorem dX1_toss_46 : decode cX1_toss 46 = .ok (.astore_n 2, 1) := dk_77 (dk_at dksX1_toss_1 22 rfl rfl)
theorem dX1_toss_47 : decode cX1_toss 47 = .ok (.bipush (-15), 2) := dk_16 241 (dk_at dksX1_toss_2 0 rfl rfl)
theorem dX1_toss_49 : decode cX1_toss 49 = .ok (.ireturn, 1) := dk_172 (dk_at dksX1_toss_2 2 rfl rfl)
theorem dX1_toss_50 : decode cX1_toss 50 = .ok (.astore_n 2, 1) := dk_77 (dk_at dksX1_toss_2 3 rfl rfl)
theorem dX1_toss_51 : decode cX1_toss 51 = .ok (.bipush (-12), 2) := dk_16 244 (dk_at dksX1_toss_2 4 rfl rfl)
theorem dX1_toss_53 : decode cX1_toss 53 = .ok (.ireturn, 1) := dk_172 (dk_at dksX1_toss_2 6 rfl rfl)
abbrev cX1_element : ByteArray := prog_1_method_53_code
def yX1_element : MethodName := ⟨RX1, "element", "(II)J"⟩
def dkwX1_element_3 : List UInt8 := [191, 58, 4, 187, 1, 52, 89, 183, 1, 54, 191, 58, 4, 187, 1, 52, 89, 183, 1, 54, 191]
abbrev dktX1_element_3 : List UInt8 := dkwX1_element_3 ++ []
def dkwX1_element_2 : List UInt8 := [192, 1, 4, 28, 53, 133, 173, 45, 192, 1, 6, 28, 46, 133, 173, 58, 4, 187, 1, 52, 89, 183, 1, 54]
abbrev dktX1_element_2 : List UInt8 := dkwX1_element_2 ++ dktX1_element_3
def dkwX1_element_1 : List UInt8 := [78, 45, 193, 0, 106, 153, 0, 11, 45, 192, 0, 106, 28, 51, 133, 173, 45, 193, 1, 4, 153, 0, 11, 45]
abbrev dktX1_element_1 : List UInt8 := dkwX1_element_1 ++ dktX1_element_2
def dkwX1_element_0 : List UInt8 := [27, 184, 0, 93, 154, 0, 11, 187, 1, 47, 89, 183, 1, 49, 191, 42, 180, 0, 96, 27, 50, 180, 0, 100]
abbrev dktX1_element_0 : List UInt8 := dkwX1_element_0 ++ dktX1_element_1
theorem dksX1_element_0 : cX1_element.data.toList.drop 0 = dktX1_element_0 := by decide +kernel
theorem dksX1_element_1 : cX1_element.data.toList.drop 24 = dktX1_element_1 := dk_seg dksX1_element_0 24 rfl rfl
theorem dksX1_element_2 : cX1_element.data.toList.drop 48 = dktX1_element_2 := dk_seg dksX1_element_1 24 rfl rfl
theorem dksX1_element_3 : cX1_element.data.toList.drop 72 = dktX1_element_3 := dk_seg dksX1_element_2 24 rfl rfl
theorem dX1_element_0 : decode cX1_element 0 = .ok (.iload_n 1, 1) := dk_27 (dk_at dksX1_element_0 0 rfl rfl)
theorem dX1_element_1 : decode cX1_element 1 = .ok (.invokestatic 93, 3) := dk_184 0 93 (dk_at dksX1_element_0 1 rfl rfl)
theorem dX1_element_4 : decode cX1_element 4 = .ok (.ifCond .ne 11, 3) := dk_154 0 11 (dk_at dksX1_element_0 4 rfl rfl)
theorem dX1_element_7 : decode cX1_element 7 = .ok (.new 303, 3) := dk_187 1 47 (dk_at dksX1_element_0 7 rfl rfl)
theorem dX1_element_10 : decode cX1_element 10 = .ok (.dup, 1) := dk_89 (dk_at dksX1_element_0 10 rfl rfl)
theorem dX1_element_11 : decode cX1_element 11 = .ok (.invokespecial 305, 3) := dk_183 1 49 (dk_at dksX1_element_0 11 rfl rfl)
theorem dX1_element_14 : decode cX1_element 14 = .ok (.athrow, 1) := dk_191 (dk_at dksX1_element_0 14 rfl rfl)
theorem dX1_element_15 : decode cX1_element 15 = .ok (.aload_n 0, 1) := dk_42 (dk_at dksX1_element_0 15 rfl rfl)
theorem dX1_element_16 : decode cX1_element 16 = .ok (.getfield 96, 3) := dk_180 0 96 (dk_at dksX1_element_0 16 rfl rfl)
theorem dX1_element_19 : decode cX1_element 19 = .ok (.iload_n 1, 1) := dk_27 (dk_at dksX1_element_0 19 rfl rfl)
theorem dX1_element_20 : decode cX1_element 20 = .ok (.aaload, 1) := dk_50 (dk_at dksX1_element_0 20 rfl rfl)
theorem dX1_element_21 : decode cX1_element 21 = .ok (.getfield 100, 3) := dk_180 0 100 (dk_at dksX1_element_0 21 rfl rfl)
theorem dX1_element_24 : decode cX1_element 24 = .ok (.astore_n 3, 1) := dk_78 (dk_at dksX1_element_1 0 rfl rfl)
theorem dX1_element_25 : decode cX1_element 25 = .ok (.aload_n 3, 1) := dk_45 (dk_at dksX1_element_1 1 rfl rfl)
theorem dX1_element_26 : decode cX1_element 26 = .ok (.instanceof 106, 3) := dk_193 0 106 (dk_at dksX1_element_1 2 rfl rfl)
theorem dX1_element_29 : decode cX1_element 29 = .ok (.ifCond .eq 11, 3) := dk_153 0 11 (dk_at dksX1_element_1 5 rfl rfl)
theorem dX1_element_32 : decode cX1_element 32 = .ok (.aload_n 3, 1) := dk_45 (dk_at dksX1_element_1 8 rfl rfl)
theorem dX1_element_33 : decode cX1_element 33 = .ok (.checkcast 106, 3) := dk_192 0 106 (dk_at dksX1_element_1 9 rfl rfl)
theorem dX1_element_36 : decode cX1_element 36 = .ok (.iload_n 2, 1) := dk_28 (dk_at dksX1_element_1 12 rfl rfl)
theorem dX1_element_37 : decode cX1_element 37 = .ok (.baload, 1) := dk_51 (dk_at dksX1_element_1 13 rfl rfl)
theorem dX1_element_38 : decode cX1_element 38 = .ok (.i2l, 1) := dk_133 (dk_at dksX1_element_1 14 rfl rfl)
theorem dX1_element_39 : decode cX1_element 39 = .ok (.lreturn, 1) := dk_173 (dk_at dksX1_element_1 15 rfl rfl)
theorem dX1_element_40 : decode cX1_element 40 = .ok (.aload_n 3, 1) := dk_45 (dk_at dksX1_element_1 16 rfl rfl)
theorem dX1_element_41 : decode cX1_element 41 = .ok (.instanceof 260, 3) := dk_193 1 4 (dk_at dksX1_element_1 17 rfl rfl)
theorem dX1_element_44 : decode cX1_element 44 = .ok (.ifCond .eq 11, 3) := dk_153 0 11 (dk_at dksX1_element_1 20 rfl rfl)
theorem dX1_element_47 : decode cX1_element 47 = .ok (.aload_n 3, 1) := dk_45 (dk_at dksX1_element_1 23 rfl rfl)
theorem dX1_element_48 : decode cX1_element 48 = .ok (.checkcast 260, 3) := dk_192 1 4 (dk_at dksX1_element_2 0 rfl rfl)
theorem dX1_element_51 : decode cX1_element 51 = .ok (.iload_n 2, 1) := dk_28 (dk_at dksX1_element_2 3 rfl rfl)
theorem dX1_element_52 : decode cX1_element 52 = .ok (.saload, 1) := dk_53 (dk_at dksX1_element_2 4 rfl rfl)
theorem dX1_element_53 : decode cX1_element 53 = .ok (.i2l, 1) := dk_133 (dk_at dksX1_element_2 5 rfl rfl)
theorem dX1_element_54 : decode cX1_element 54 = .ok (.lreturn, 1) := dk_173 (dk_at dksX1_element_2 6 rfl rfl)
theorem dX1_element_55 : decode cX1_element 55 = .ok (.aload_n 3, 1) := dk_45 (dk_at dksX1_element_2 7 rfl rfl)
theorem dX1_element_56 : decode cX1_element 56 = .ok (.checkcast 262, 3) := dk_192 1 6 (dk_at dksX1_element_2 8 rfl rfl)
theorem dX1_element_59 : decode cX1_element 59 = .ok (.iload_n 2, 1) := dk_28 (dk_at dksX1_element_2 11 rfl rfl)
theorem dX1_element_60 : decode cX1_element 60 = .ok (.iaload, 1) := dk_46 (dk_at dksX1_element_2 12 rfl rfl)
theorem dX1_element_61 : decode cX1_element 61 = .ok (.i2l, 1) := dk_133 (dk_at dksX1_element_2 13 rfl rfl)
theorem dX1_element_62 : decode cX1_element 62 = .ok (.lreturn, 1) := dk_173 (dk_at dksX1_element_2 14 rfl rfl)
theorem dX1_element_63 : decode cX1_element 63 = .ok (.astore 4, 2) := dk_58 4 (dk_at dksX1_element_2 15 rfl rfl)
theorem dX1_element_65 : decode cX1_element 65 = .ok (.new 308, 3) := dk_187 1 52 (dk_at dksX1_element_2 17 rfl rfl)
theorem dX1_element_68 : decode cX1_element 68 = .ok (.dup, 1) := dk_89 (dk_at dksX1_element_2 20 rfl rfl)
theorem dX1_element_69 : decode cX1_element 69 = .ok (.invokespecial 310, 3) := dk_183 1 54 (dk_at dksX1_element_2 21 rfl rfl)
theorem dX1_element_72 : decode cX1_element 72 = .ok (.athrow, 1) := dk_191 (dk_at dksX1_element_3 0 rfl rfl)
theorem dX1_element_73 : decode cX1_element 73 = .ok (.astore 4, 2) := dk_58 4 (dk_at dksX1_element_3 1 rfl rfl)
theorem dX1_element_75 : decode cX1_element 75 = .ok (.new 308, 3) := dk_187 1 52 (dk_at dksX1_element_3 3 rfl rfl)
theorem dX1_element_78 : decode cX1_element 78 = .ok (.dup, 1) := dk_89 (dk_at dksX1_element_3 6 rfl rfl)
theorem dX1_element_79 : decode cX1_element 79 = .ok (.invokespecial 310, 3) := dk_183 1 54 (dk_at dksX1_element_3 7 rfl rfl)
theorem dX1_element_82 : decode cX1_element 82 = .ok (.athrow, 1) := dk_191 (dk_at dksX1_element_3 10 rfl rfl)
theorem dX1_element_83 : decode cX1_element 83 = .ok (.astore 4, 2) := dk_58 4 (dk_at dksX1_element_3 11 rfl rfl)
theorem dX1_element_85 : decode cX1_element 85 = .ok (.new 308, 3) := dk_187 1 52 (dk_at dksX1_element_3 13 rfl rfl)
theorem dX1_element_88 : decode cX1_element 88 = .ok (.dup, 1) := dk_89 (dk_at dksX1_element_3 16 rfl rfl)
theorem dX1_element_89 : decode cX1_element 89 = .ok (.invokespecial 310, 3) := dk_183 1 54 (dk_at dksX1_element_3 17 rfl rfl)
theorem dX1_element_92 : decode cX1_element 92 = .ok (.athrow, 1) := dk_191 (dk_at dksX1_element_3 20 rfl rfl)
theorem q54 : (Jvm.Cond.initialized "WhoseGlass") ∈ lw_all := lw_g (lw_at lw_m1 1 rfl) rfl
theorem q82 : (Jvm.Cond.instanceMethod ({ cls := "WhoseGlass", name := "house", desc := "(I)I" } : Jvm.MethodName)) ∈ lw_all := lw_g (lw_at lw_m1 29 rfl) rfl
theorem q83 : (Jvm.Cond.selects "WhoseGlass" ({ cls := "WhoseGlass", name := "house", desc := "(I)I" } : Jvm.MethodName) ({ cls := "WhoseGlass", name := "house", desc := "(I)I" } : Jvm.MethodName)) ∈ lw_all := lw_g (lw_at lw_m1 30 rfl) rfl
theorem q84 : (Jvm.Cond.codeWith ({ cls := "WhoseGlass", name := "house", desc := "(I)I" } : Jvm.MethodName) prog_1_method_8_code (5 : Nat) (Option.some Jvm.ClassFile.FieldType.int) [((47 : Nat), (111 : Nat), (112 : Nat), (129 : Nat))]) ∈ lw_all := lw_g (lw_at lw_m1 31 rfl) rfl
theorem q85 : (Jvm.Cond.classLink "WhoseGlass" (129 : Nat) "WhoseGlass$Broken") ∈ lw_all := lw_g (lw_at lw_m1 32 rfl) rfl
theorem q86 : (Jvm.Cond.methodLink "WhoseGlass" (93 : Nat) ({ cls := "WhoseGlass", name := "isShelf", desc := "(I)Z" } : Jvm.MethodName)) ∈ lw_all := lw_g (lw_at lw_m1 33 rfl) rfl
theorem q87 : (Jvm.Cond.static ({ cls := "WhoseGlass", name := "isShelf", desc := "(I)Z" } : Jvm.MethodName)) ∈ lw_all := lw_g (lw_at lw_m1 34 rfl) rfl
theorem q88 : (Jvm.Cond.code ({ cls := "WhoseGlass", name := "isShelf", desc := "(I)Z" } : Jvm.MethodName) prog_1_method_7_code (1 : Nat) (Option.some Jvm.ClassFile.FieldType.boolean)) ∈ lw_all := lw_g (lw_at lw_m1 35 rfl) rfl
theorem q89 : (Jvm.Cond.methodLink "WhoseGlass" (3 : Nat) ({ cls := "WhoseGlass", name := "isIn", desc := "(III)Z" } : Jvm.MethodName)) ∈ lw_all := lw_g (lw_at lw_m1 36 rfl) rfl
theorem q90 : (Jvm.Cond.static ({ cls := "WhoseGlass", name := "isIn", desc := "(III)Z" } : Jvm.MethodName)) ∈ lw_all := lw_g (lw_at lw_m1 37 rfl) rfl
theorem q91 : (Jvm.Cond.code ({ cls := "WhoseGlass", name := "isIn", desc := "(III)Z" } : Jvm.MethodName) prog_1_method_1_code (3 : Nat) (Option.some Jvm.ClassFile.FieldType.boolean)) ∈ lw_all := lw_g (lw_at lw_m1 38 rfl) rfl
theorem q92 : (Jvm.Cond.classLink "WhoseGlass" (106 : Nat) "[B") ∈ lw_all := lw_g (lw_at lw_m1 39 rfl) rfl
theorem q93 : (Jvm.Cond.methodLink "WhoseGlass" (111 : Nat) ({ cls := "WhoseGlass$House", name := "takes", desc := "(LWhoseGlass$House;)V" } : Jvm.MethodName)) ∈ lw_all := lw_g (lw_at lw_m1 40 rfl) rfl
theorem q100 : (Jvm.Cond.classLink "WhoseGlass" (35 : Nat) "WhoseGlass$Reader") ∈ lw_all := lw_g (lw_at lw_m1 47 rfl) rfl
theorem q102 : (Jvm.Cond.methodLink "WhoseGlass" (115 : Nat) ({ cls := "WhoseGlass$Reader", name := "<init>", desc := "([B)V" } : Jvm.MethodName)) ∈ lw_all := lw_g (lw_at lw_m1 49 rfl) rfl
theorem q113 : (Jvm.Cond.fieldLink "WhoseGlass" (40 : Nat) "WhoseGlass$Reader" "letter" "[I") ∈ lw_all := lw_g (lw_at lw_m1 60 rfl) rfl
theorem q115 : (Jvm.Cond.fieldLink "WhoseGlass" (131 : Nat) "WhoseGlass$Reader" "place" "[I") ∈ lw_all := lw_g (lw_at lw_m1 62 rfl) rfl
theorem q117 : (Jvm.Cond.fieldLink "WhoseGlass" (34 : Nat) "WhoseGlass$Reader" "told" "[[I") ∈ lw_all := lw_g (lw_at lw_m1 64 rfl) rfl
theorem q119 : (Jvm.Cond.fieldLink "WhoseGlass" (122 : Nat) "WhoseGlass$Reader" "statements" "I") ∈ lw_all := lw_g (lw_at lw_m1 66 rfl) rfl
theorem q134 : (Jvm.Cond.methodLink "WhoseGlass" (118 : Nat) ({ cls := "WhoseGlass$Reader", name := "reads", desc := "()V" } : Jvm.MethodName)) ∈ lw_all := lw_g (lw_at lw_m1 81 rfl) rfl
theorem q229 : (Jvm.Cond.fieldLink "WhoseGlass" (136 : Nat) "WhoseGlass$Broken" "kind" "I") ∈ lw_all := lw_g (lw_at lw_m1 176 rfl) rfl
theorem q231 : (Jvm.Cond.fieldLink "WhoseGlass" (139 : Nat) "WhoseGlass$Broken" "place" "I") ∈ lw_all := lw_g (lw_at lw_m1 178 rfl) rfl
theorem q249 : (Jvm.Cond.methodLink "WhoseGlass" (125 : Nat) ({ cls := "WhoseGlass", name := "comesAs", desc := "(LWhoseGlass$Reader;I)Z" } : Jvm.MethodName)) ∈ lw_all := lw_g (lw_at lw_m1 196 rfl) rfl
theorem q250 : (Jvm.Cond.privateMethod ({ cls := "WhoseGlass", name := "comesAs", desc := "(LWhoseGlass$Reader;I)Z" } : Jvm.MethodName)) ∈ lw_tbl := lw_at lw_m1 197 rfl
theorem q251 : (Jvm.Cond.instanceMethod ({ cls := "WhoseGlass", name := "comesAs", desc := "(LWhoseGlass$Reader;I)Z" } : Jvm.MethodName)) ∈ lw_all := lw_g (lw_at lw_m1 198 rfl) rfl
theorem q252 : (Jvm.Cond.instantiable "WhoseGlass" (7 : Nat)) ∈ lw_all := lw_g (lw_at lw_m1 199 rfl) rfl
theorem q253 : (Jvm.Cond.code ({ cls := "WhoseGlass", name := "comesAs", desc := "(LWhoseGlass$Reader;I)Z" } : Jvm.MethodName) prog_1_method_6_code (4 : Nat) (Option.some Jvm.ClassFile.FieldType.boolean)) ∈ lw_all := lw_g (lw_at lw_m1 200 rfl) rfl
theorem q254 : (Jvm.Cond.methodLink "WhoseGlass" (44 : Nat) ({ cls := "WhoseGlass", name := "isPlace", desc := "(I)Z" } : Jvm.MethodName)) ∈ lw_all := lw_g (lw_at lw_m1 201 rfl) rfl
theorem q255 : (Jvm.Cond.static ({ cls := "WhoseGlass", name := "isPlace", desc := "(I)Z" } : Jvm.MethodName)) ∈ lw_all := lw_g (lw_at lw_m1 202 rfl) rfl
theorem q256 : (Jvm.Cond.code ({ cls := "WhoseGlass", name := "isPlace", desc := "(I)Z" } : Jvm.MethodName) prog_1_method_4_code (1 : Nat) (Option.some Jvm.ClassFile.FieldType.boolean)) ∈ lw_all := lw_g (lw_at lw_m1 203 rfl) rfl
theorem q257 : (Jvm.Cond.methodLink "WhoseGlass" (52 : Nat) ({ cls := "WhoseGlass", name := "glassOf", desc := "(II)LWhoseGlass$Glass;" } : Jvm.MethodName)) ∈ lw_all := lw_g (lw_at lw_m1 204 rfl) rfl
theorem q258 : (Jvm.Cond.static ({ cls := "WhoseGlass", name := "glassOf", desc := "(II)LWhoseGlass$Glass;" } : Jvm.MethodName)) ∈ lw_all := lw_g (lw_at lw_m1 205 rfl) rfl
theorem q259 : (Jvm.Cond.code ({ cls := "WhoseGlass", name := "glassOf", desc := "(II)LWhoseGlass$Glass;" } : Jvm.MethodName) prog_1_method_5_code (2 : Nat) (Option.some (Jvm.ClassFile.FieldType.object "WhoseGlass$Glass"))) ∈ lw_all := lw_g (lw_at lw_m1 206 rfl) rfl
theorem q260 : (Jvm.Cond.classLink "WhoseGlass" (7 : Nat) "WhoseGlass$Glass") ∈ lw_all := lw_g (lw_at lw_m1 207 rfl) rfl
theorem q262 : (Jvm.Cond.methodLink "WhoseGlass" (9 : Nat) ({ cls := "WhoseGlass$Glass", name := "<init>", desc := "(I)V" } : Jvm.MethodName)) ∈ lw_all := lw_g (lw_at lw_m1 209 rfl) rfl
theorem q275 : (Jvm.Cond.fieldLink "WhoseGlass" (148 : Nat) "WhoseGlass$Glass" "figure" "I") ∈ lw_all := lw_g (lw_at lw_m1 222 rfl) rfl
theorem q279 : (Jvm.Cond.classLink "WhoseGlass" (13 : Nat) "WhoseGlass$Marked") ∈ lw_all := lw_g (lw_at lw_m1 226 rfl) rfl
theorem q281 : (Jvm.Cond.methodLink "WhoseGlass" (15 : Nat) ({ cls := "WhoseGlass$Marked", name := "<init>", desc := "(I)V" } : Jvm.MethodName)) ∈ lw_all := lw_g (lw_at lw_m1 228 rfl) rfl
theorem q287 : (Jvm.Cond.classLink "WhoseGlass" (16 : Nat) "WhoseGlass$Tall") ∈ lw_all := lw_g (lw_at lw_m1 234 rfl) rfl
theorem q289 : (Jvm.Cond.methodLink "WhoseGlass" (18 : Nat) ({ cls := "WhoseGlass$Tall", name := "<init>", desc := "(I)V" } : Jvm.MethodName)) ∈ lw_all := lw_g (lw_at lw_m1 236 rfl) rfl
theorem q295 : (Jvm.Cond.classLink "WhoseGlass" (19 : Nat) "WhoseGlass$Red") ∈ lw_all := lw_g (lw_at lw_m2 2 rfl) rfl
theorem q297 : (Jvm.Cond.methodLink "WhoseGlass" (21 : Nat) ({ cls := "WhoseGlass$Red", name := "<init>", desc := "(I)V" } : Jvm.MethodName)) ∈ lw_all := lw_g (lw_at lw_m2 4 rfl) rfl
theorem q303 : (Jvm.Cond.classLink "WhoseGlass" (22 : Nat) "WhoseGlass$Water") ∈ lw_all := lw_g (lw_at lw_m2 10 rfl) rfl
theorem q305 : (Jvm.Cond.methodLink "WhoseGlass" (24 : Nat) ({ cls := "WhoseGlass$Water", name := "<init>", desc := "(I)V" } : Jvm.MethodName)) ∈ lw_all := lw_g (lw_at lw_m2 12 rfl) rfl
theorem q311 : (Jvm.Cond.classLink "WhoseGlass" (25 : Nat) "WhoseGlass$Owl") ∈ lw_all := lw_g (lw_at lw_m2 18 rfl) rfl
theorem q313 : (Jvm.Cond.methodLink "WhoseGlass" (27 : Nat) ({ cls := "WhoseGlass$Owl", name := "<init>", desc := "(I)V" } : Jvm.MethodName)) ∈ lw_all := lw_g (lw_at lw_m2 20 rfl) rfl
theorem q319 : (Jvm.Cond.classLink "WhoseGlass" (28 : Nat) "WhoseGlass$Chipped") ∈ lw_all := lw_g (lw_at lw_m2 26 rfl) rfl
theorem q321 : (Jvm.Cond.methodLink "WhoseGlass" (30 : Nat) ({ cls := "WhoseGlass$Chipped", name := "<init>", desc := "(I)V" } : Jvm.MethodName)) ∈ lw_all := lw_g (lw_at lw_m2 28 rfl) rfl
theorem q327 : (Jvm.Cond.classLink "WhoseGlass" (31 : Nat) "WhoseGlass$Poured") ∈ lw_all := lw_g (lw_at lw_m2 34 rfl) rfl
theorem q329 : (Jvm.Cond.methodLink "WhoseGlass" (33 : Nat) ({ cls := "WhoseGlass$Poured", name := "<init>", desc := "(I)V" } : Jvm.MethodName)) ∈ lw_all := lw_g (lw_at lw_m2 36 rfl) rfl
theorem q335 : (Jvm.Cond.methodLink "WhoseGlass" (56 : Nat) ({ cls := "WhoseGlass$House", name := "comes", desc := "(LWhoseGlass$Glass;II)Z" } : Jvm.MethodName)) ∈ lw_all := lw_g (lw_at lw_m2 42 rfl) rfl
theorem q339 : (Jvm.Cond.methodLink "WhoseGlass" (62 : Nat) ({ cls := "WhoseGlass$House", name := "comesGuest", desc := "([I)Z" } : Jvm.MethodName)) ∈ lw_all := lw_g (lw_at lw_m2 46 rfl) rfl
theorem q343 : (Jvm.Cond.methodLink "WhoseGlass" (66 : Nat) ({ cls := "WhoseGlass$House", name := "isGuest", desc := "(I)Z" } : Jvm.MethodName)) ∈ lw_all := lw_g (lw_at lw_m2 50 rfl) rfl
theorem q348 : (Jvm.Cond.methodLink "WhoseGlass" (69 : Nat) ({ cls := "WhoseGlass$House", name := "isGlass", desc := "(I)Z" } : Jvm.MethodName)) ∈ lw_all := lw_g (lw_at lw_m2 55 rfl) rfl
theorem q352 : (Jvm.Cond.methodLink "WhoseGlass" (75 : Nat) ({ cls := "WhoseGlass$House", name := "isLaid", desc := "(I)Z" } : Jvm.MethodName)) ∈ lw_all := lw_g (lw_at lw_m2 59 rfl) rfl
theorem q356 : (Jvm.Cond.methodLink "WhoseGlass" (78 : Nat) ({ cls := "WhoseGlass$House", name := "isHeld", desc := "(II)V" } : Jvm.MethodName)) ∈ lw_all := lw_g (lw_at lw_m2 63 rfl) rfl
theorem q360 : (Jvm.Cond.methodLink "WhoseGlass" (89 : Nat) ({ cls := "WhoseGlass$House", name := "goesMinute", desc := "()Z" } : Jvm.MethodName)) ∈ lw_all := lw_g (lw_at lw_m2 67 rfl) rfl
theorem q511 : (Jvm.Cond.static ({ cls := "WhoseGlass", name := "has", desc := "(II)Z" } : Jvm.MethodName)) ∈ lw_all := lw_g (lw_at lw_m2 218 rfl) rfl
theorem q512 : (Jvm.Cond.code ({ cls := "WhoseGlass", name := "has", desc := "(II)Z" } : Jvm.MethodName) prog_1_method_2_code (2 : Nat) (Option.some Jvm.ClassFile.FieldType.boolean)) ∈ lw_all := lw_g (lw_at lw_m2 219 rfl) rfl
theorem q517 : (Jvm.Cond.methodLink "WhoseGlass" (134 : Nat) ({ cls := "WhoseGlass$Broken", name := "<init>", desc := "(II)V" } : Jvm.MethodName)) ∈ lw_all := lw_g (lw_at lw_m2 224 rfl) rfl
theorem q519 : (Jvm.Cond.instanceMethod ({ cls := "WhoseGlass", name := "glass", desc := "(II)I" } : Jvm.MethodName)) ∈ lw_all := lw_g (lw_at lw_m2 226 rfl) rfl
theorem q520 : (Jvm.Cond.selects "WhoseGlass" ({ cls := "WhoseGlass", name := "glass", desc := "(II)I" } : Jvm.MethodName) ({ cls := "WhoseGlass", name := "glass", desc := "(II)I" } : Jvm.MethodName)) ∈ lw_all := lw_g (lw_at lw_m2 227 rfl) rfl
theorem q521 : (Jvm.Cond.code ({ cls := "WhoseGlass", name := "glass", desc := "(II)I" } : Jvm.MethodName) prog_1_method_9_code (3 : Nat) (Option.some Jvm.ClassFile.FieldType.int)) ∈ lw_all := lw_g (lw_at lw_m2 228 rfl) rfl
theorem q522 : (Jvm.Cond.methodLink "WhoseGlass" (145 : Nat) ({ cls := "WhoseGlass$Glass", name := "kind", desc := "()I" } : Jvm.MethodName)) ∈ lw_all := lw_g (lw_at lw_m2 229 rfl) rfl
theorem q524 : (Jvm.Cond.instanceMethod ({ cls := "WhoseGlass", name := "guest", desc := "(II)I" } : Jvm.MethodName)) ∈ lw_all := lw_g (lw_at lw_m2 231 rfl) rfl
theorem q525 : (Jvm.Cond.selects "WhoseGlass" ({ cls := "WhoseGlass", name := "guest", desc := "(II)I" } : Jvm.MethodName) ({ cls := "WhoseGlass", name := "guest", desc := "(II)I" } : Jvm.MethodName)) ∈ lw_all := lw_g (lw_at lw_m2 232 rfl) rfl
theorem q526 : (Jvm.Cond.code ({ cls := "WhoseGlass", name := "guest", desc := "(II)I" } : Jvm.MethodName) prog_1_method_10_code (3 : Nat) (Option.some Jvm.ClassFile.FieldType.int)) ∈ lw_all := lw_g (lw_at lw_m2 233 rfl) rfl
theorem q528 : (Jvm.Cond.instanceMethod ({ cls := "WhoseGlass", name := "comes", desc := "(II)I" } : Jvm.MethodName)) ∈ lw_all := lw_g (lw_at lw_m2 235 rfl) rfl
theorem q529 : (Jvm.Cond.selects "WhoseGlass" ({ cls := "WhoseGlass", name := "comes", desc := "(II)I" } : Jvm.MethodName) ({ cls := "WhoseGlass", name := "comes", desc := "(II)I" } : Jvm.MethodName)) ∈ lw_all := lw_g (lw_at lw_m2 236 rfl) rfl
theorem q530 : (Jvm.Cond.code ({ cls := "WhoseGlass", name := "comes", desc := "(II)I" } : Jvm.MethodName) prog_1_method_11_code (4 : Nat) (Option.some Jvm.ClassFile.FieldType.int)) ∈ lw_all := lw_g (lw_at lw_m2 237 rfl) rfl
theorem q532 : (Jvm.Cond.instanceMethod ({ cls := "WhoseGlass", name := "go", desc := "(II)I" } : Jvm.MethodName)) ∈ lw_all := lw_g (lw_at lw_m2 239 rfl) rfl
theorem q533 : (Jvm.Cond.selects "WhoseGlass" ({ cls := "WhoseGlass", name := "go", desc := "(II)I" } : Jvm.MethodName) ({ cls := "WhoseGlass", name := "go", desc := "(II)I" } : Jvm.MethodName)) ∈ lw_all := lw_g (lw_at lw_m3 0 rfl) rfl
theorem q534 : (Jvm.Cond.code ({ cls := "WhoseGlass", name := "go", desc := "(II)I" } : Jvm.MethodName) prog_1_method_12_code (4 : Nat) (Option.some Jvm.ClassFile.FieldType.int)) ∈ lw_all := lw_g (lw_at lw_m3 1 rfl) rfl
theorem q536 : (Jvm.Cond.instanceMethod ({ cls := "WhoseGlass", name := "sip", desc := "(I)I" } : Jvm.MethodName)) ∈ lw_all := lw_g (lw_at lw_m3 3 rfl) rfl
theorem q537 : (Jvm.Cond.selects "WhoseGlass" ({ cls := "WhoseGlass", name := "sip", desc := "(I)I" } : Jvm.MethodName) ({ cls := "WhoseGlass", name := "sip", desc := "(I)I" } : Jvm.MethodName)) ∈ lw_all := lw_g (lw_at lw_m3 4 rfl) rfl
theorem q538 : (Jvm.Cond.code ({ cls := "WhoseGlass", name := "sip", desc := "(I)I" } : Jvm.MethodName) prog_1_method_13_code (2 : Nat) (Option.some Jvm.ClassFile.FieldType.int)) ∈ lw_all := lw_g (lw_at lw_m3 5 rfl) rfl
theorem q539 : (Jvm.Cond.methodLink "WhoseGlass" (189 : Nat) ({ cls := "WhoseGlass$House", name := "sip", desc := "(I)I" } : Jvm.MethodName)) ∈ lw_all := lw_g (lw_at lw_m3 6 rfl) rfl
theorem q541 : (Jvm.Cond.instanceMethod ({ cls := "WhoseGlass", name := "lay", desc := "(I)I" } : Jvm.MethodName)) ∈ lw_all := lw_g (lw_at lw_m3 8 rfl) rfl
theorem q542 : (Jvm.Cond.selects "WhoseGlass" ({ cls := "WhoseGlass", name := "lay", desc := "(I)I" } : Jvm.MethodName) ({ cls := "WhoseGlass", name := "lay", desc := "(I)I" } : Jvm.MethodName)) ∈ lw_all := lw_g (lw_at lw_m3 9 rfl) rfl
theorem q543 : (Jvm.Cond.code ({ cls := "WhoseGlass", name := "lay", desc := "(I)I" } : Jvm.MethodName) prog_1_method_14_code (2 : Nat) (Option.some Jvm.ClassFile.FieldType.int)) ∈ lw_all := lw_g (lw_at lw_m3 10 rfl) rfl
theorem q544 : (Jvm.Cond.methodLink "WhoseGlass" (193 : Nat) ({ cls := "WhoseGlass$House", name := "lay", desc := "(I)I" } : Jvm.MethodName)) ∈ lw_all := lw_g (lw_at lw_m3 11 rfl) rfl
theorem q546 : (Jvm.Cond.instanceMethod ({ cls := "WhoseGlass", name := "take", desc := "(I)I" } : Jvm.MethodName)) ∈ lw_all := lw_g (lw_at lw_m3 13 rfl) rfl
theorem q547 : (Jvm.Cond.selects "WhoseGlass" ({ cls := "WhoseGlass", name := "take", desc := "(I)I" } : Jvm.MethodName) ({ cls := "WhoseGlass", name := "take", desc := "(I)I" } : Jvm.MethodName)) ∈ lw_all := lw_g (lw_at lw_m3 14 rfl) rfl
theorem q548 : (Jvm.Cond.code ({ cls := "WhoseGlass", name := "take", desc := "(I)I" } : Jvm.MethodName) prog_1_method_15_code (2 : Nat) (Option.some Jvm.ClassFile.FieldType.int)) ∈ lw_all := lw_g (lw_at lw_m3 15 rfl) rfl
theorem q549 : (Jvm.Cond.methodLink "WhoseGlass" (196 : Nat) ({ cls := "WhoseGlass$House", name := "take", desc := "(I)I" } : Jvm.MethodName)) ∈ lw_all := lw_g (lw_at lw_m3 16 rfl) rfl
theorem q551 : (Jvm.Cond.instanceMethod ({ cls := "WhoseGlass", name := "fill", desc := "(I)I" } : Jvm.MethodName)) ∈ lw_all := lw_g (lw_at lw_m3 18 rfl) rfl
theorem q552 : (Jvm.Cond.selects "WhoseGlass" ({ cls := "WhoseGlass", name := "fill", desc := "(I)I" } : Jvm.MethodName) ({ cls := "WhoseGlass", name := "fill", desc := "(I)I" } : Jvm.MethodName)) ∈ lw_all := lw_g (lw_at lw_m3 19 rfl) rfl
theorem q553 : (Jvm.Cond.code ({ cls := "WhoseGlass", name := "fill", desc := "(I)I" } : Jvm.MethodName) prog_1_method_16_code (4 : Nat) (Option.some Jvm.ClassFile.FieldType.int)) ∈ lw_all := lw_g (lw_at lw_m3 20 rfl) rfl
theorem q555 : (Jvm.Cond.instanceMethod ({ cls := "WhoseGlass", name := "clear", desc := "(II)I" } : Jvm.MethodName)) ∈ lw_all := lw_g (lw_at lw_m3 22 rfl) rfl
theorem q556 : (Jvm.Cond.selects "WhoseGlass" ({ cls := "WhoseGlass", name := "clear", desc := "(II)I" } : Jvm.MethodName) ({ cls := "WhoseGlass", name := "clear", desc := "(II)I" } : Jvm.MethodName)) ∈ lw_all := lw_g (lw_at lw_m3 23 rfl) rfl
theorem q557 : (Jvm.Cond.code ({ cls := "WhoseGlass", name := "clear", desc := "(II)I" } : Jvm.MethodName) prog_1_method_17_code (5 : Nat) (Option.some Jvm.ClassFile.FieldType.int)) ∈ lw_all := lw_g (lw_at lw_m3 24 rfl) rfl
theorem q558 : (Jvm.Cond.methodLink "WhoseGlass" (202 : Nat) ({ cls := "WhoseGlass$House", name := "sinks", desc := "(I)V" } : Jvm.MethodName)) ∈ lw_all := lw_g (lw_at lw_m3 25 rfl) rfl
theorem q563 : (Jvm.Cond.instanceMethod ({ cls := "WhoseGlass", name := "minutes", desc := "(I)I" } : Jvm.MethodName)) ∈ lw_all := lw_g (lw_at lw_m3 30 rfl) rfl
theorem q564 : (Jvm.Cond.selects "WhoseGlass" ({ cls := "WhoseGlass", name := "minutes", desc := "(I)I" } : Jvm.MethodName) ({ cls := "WhoseGlass", name := "minutes", desc := "(I)I" } : Jvm.MethodName)) ∈ lw_all := lw_g (lw_at lw_m3 31 rfl) rfl
theorem q565 : (Jvm.Cond.code ({ cls := "WhoseGlass", name := "minutes", desc := "(I)I" } : Jvm.MethodName) prog_1_method_18_code (3 : Nat) (Option.some Jvm.ClassFile.FieldType.int)) ∈ lw_all := lw_g (lw_at lw_m3 32 rfl) rfl
theorem q567 : (Jvm.Cond.instanceMethod ({ cls := "WhoseGlass", name := "like", desc := "(II)I" } : Jvm.MethodName)) ∈ lw_all := lw_g (lw_at lw_m3 34 rfl) rfl
theorem q568 : (Jvm.Cond.selects "WhoseGlass" ({ cls := "WhoseGlass", name := "like", desc := "(II)I" } : Jvm.MethodName) ({ cls := "WhoseGlass", name := "like", desc := "(II)I" } : Jvm.MethodName)) ∈ lw_all := lw_g (lw_at lw_m3 35 rfl) rfl
theorem q569 : (Jvm.Cond.code ({ cls := "WhoseGlass", name := "like", desc := "(II)I" } : Jvm.MethodName) prog_1_method_19_code (3 : Nat) (Option.some Jvm.ClassFile.FieldType.int)) ∈ lw_all := lw_g (lw_at lw_m3 36 rfl) rfl
theorem q570 : (Jvm.Cond.methodLink "WhoseGlass" (205 : Nat) ({ cls := "WhoseGlass$House", name := "like", desc := "(II)I" } : Jvm.MethodName)) ∈ lw_all := lw_g (lw_at lw_m3 37 rfl) rfl
theorem q572 : (Jvm.Cond.instanceMethod ({ cls := "WhoseGlass", name := "mine", desc := "(I)I" } : Jvm.MethodName)) ∈ lw_all := lw_g (lw_at lw_m3 39 rfl) rfl
theorem q573 : (Jvm.Cond.selects "WhoseGlass" ({ cls := "WhoseGlass", name := "mine", desc := "(I)I" } : Jvm.MethodName) ({ cls := "WhoseGlass", name := "mine", desc := "(I)I" } : Jvm.MethodName)) ∈ lw_all := lw_g (lw_at lw_m3 40 rfl) rfl
theorem q574 : (Jvm.Cond.code ({ cls := "WhoseGlass", name := "mine", desc := "(I)I" } : Jvm.MethodName) prog_1_method_20_code (2 : Nat) (Option.some Jvm.ClassFile.FieldType.int)) ∈ lw_all := lw_g (lw_at lw_m3 41 rfl) rfl
theorem q575 : (Jvm.Cond.methodLink "WhoseGlass" (209 : Nat) ({ cls := "WhoseGlass$House", name := "mine", desc := "(I)I" } : Jvm.MethodName)) ∈ lw_all := lw_g (lw_at lw_m3 42 rfl) rfl
theorem q577 : (Jvm.Cond.instanceMethod ({ cls := "WhoseGlass", name := "likely", desc := "(III)I" } : Jvm.MethodName)) ∈ lw_all := lw_g (lw_at lw_m3 44 rfl) rfl
theorem q578 : (Jvm.Cond.selects "WhoseGlass" ({ cls := "WhoseGlass", name := "likely", desc := "(III)I" } : Jvm.MethodName) ({ cls := "WhoseGlass", name := "likely", desc := "(III)I" } : Jvm.MethodName)) ∈ lw_all := lw_g (lw_at lw_m3 45 rfl) rfl
theorem q579 : (Jvm.Cond.code ({ cls := "WhoseGlass", name := "likely", desc := "(III)I" } : Jvm.MethodName) prog_1_method_22_code (9 : Nat) (Option.some Jvm.ClassFile.FieldType.int)) ∈ lw_all := lw_g (lw_at lw_m3 46 rfl) rfl
theorem q580 : (Jvm.Cond.methodLink "WhoseGlass" (212 : Nat) ({ cls := "WhoseGlass", name := "divisor", desc := "(II)I" } : Jvm.MethodName)) ∈ lw_all := lw_g (lw_at lw_m3 47 rfl) rfl
theorem q581 : (Jvm.Cond.static ({ cls := "WhoseGlass", name := "divisor", desc := "(II)I" } : Jvm.MethodName)) ∈ lw_all := lw_g (lw_at lw_m3 48 rfl) rfl
theorem q582 : (Jvm.Cond.code ({ cls := "WhoseGlass", name := "divisor", desc := "(II)I" } : Jvm.MethodName) prog_1_method_21_code (5 : Nat) (Option.some Jvm.ClassFile.FieldType.int)) ∈ lw_all := lw_g (lw_at lw_m3 49 rfl) rfl
theorem q584 : (Jvm.Cond.instanceMethod ({ cls := "WhoseGlass", name := "idle", desc := "(I)I" } : Jvm.MethodName)) ∈ lw_all := lw_g (lw_at lw_m3 51 rfl) rfl
theorem q585 : (Jvm.Cond.selects "WhoseGlass" ({ cls := "WhoseGlass", name := "idle", desc := "(I)I" } : Jvm.MethodName) ({ cls := "WhoseGlass", name := "idle", desc := "(I)I" } : Jvm.MethodName)) ∈ lw_all := lw_g (lw_at lw_m3 52 rfl) rfl
theorem q586 : (Jvm.Cond.code ({ cls := "WhoseGlass", name := "idle", desc := "(I)I" } : Jvm.MethodName) prog_1_method_24_code (4 : Nat) (Option.some Jvm.ClassFile.FieldType.int)) ∈ lw_all := lw_g (lw_at lw_m3 53 rfl) rfl
theorem q587 : (Jvm.Cond.methodLink "WhoseGlass" (218 : Nat) ({ cls := "WhoseGlass", name := "isSomeonesOwn", desc := "(I)Z" } : Jvm.MethodName)) ∈ lw_all := lw_g (lw_at lw_m3 54 rfl) rfl
theorem q588 : (Jvm.Cond.privateMethod ({ cls := "WhoseGlass", name := "isSomeonesOwn", desc := "(I)Z" } : Jvm.MethodName)) ∈ lw_tbl := lw_at lw_m3 55 rfl
theorem q589 : (Jvm.Cond.instanceMethod ({ cls := "WhoseGlass", name := "isSomeonesOwn", desc := "(I)Z" } : Jvm.MethodName)) ∈ lw_all := lw_g (lw_at lw_m3 56 rfl) rfl
theorem q590 : (Jvm.Cond.code ({ cls := "WhoseGlass", name := "isSomeonesOwn", desc := "(I)Z" } : Jvm.MethodName) prog_1_method_23_code (3 : Nat) (Option.some Jvm.ClassFile.FieldType.boolean)) ∈ lw_all := lw_g (lw_at lw_m3 57 rfl) rfl
theorem q592 : (Jvm.Cond.instanceMethod ({ cls := "WhoseGlass", name := "oldest", desc := "(I)I" } : Jvm.MethodName)) ∈ lw_all := lw_g (lw_at lw_m3 59 rfl) rfl
theorem q593 : (Jvm.Cond.selects "WhoseGlass" ({ cls := "WhoseGlass", name := "oldest", desc := "(I)I" } : Jvm.MethodName) ({ cls := "WhoseGlass", name := "oldest", desc := "(I)I" } : Jvm.MethodName)) ∈ lw_all := lw_g (lw_at lw_m3 60 rfl) rfl
theorem q594 : (Jvm.Cond.code ({ cls := "WhoseGlass", name := "oldest", desc := "(I)I" } : Jvm.MethodName) prog_1_method_25_code (4 : Nat) (Option.some Jvm.ClassFile.FieldType.int)) ∈ lw_all := lw_g (lw_at lw_m3 61 rfl) rfl
theorem q596 : (Jvm.Cond.instanceMethod ({ cls := "WhoseGlass", name := "mistakes", desc := "(I)I" } : Jvm.MethodName)) ∈ lw_all := lw_g (lw_at lw_m3 63 rfl) rfl
theorem q597 : (Jvm.Cond.selects "WhoseGlass" ({ cls := "WhoseGlass", name := "mistakes", desc := "(I)I" } : Jvm.MethodName) ({ cls := "WhoseGlass", name := "mistakes", desc := "(I)I" } : Jvm.MethodName)) ∈ lw_all := lw_g (lw_at lw_m3 64 rfl) rfl
theorem q598 : (Jvm.Cond.code ({ cls := "WhoseGlass", name := "mistakes", desc := "(I)I" } : Jvm.MethodName) prog_1_method_29_code (2 : Nat) (Option.some Jvm.ClassFile.FieldType.int)) ∈ lw_all := lw_g (lw_at lw_m3 65 rfl) rfl
theorem q599 : (Jvm.Cond.methodLink "WhoseGlass" (230 : Nat) ({ cls := "WhoseGlass", name := "isAhead", desc := "(I)Z" } : Jvm.MethodName)) ∈ lw_all := lw_g (lw_at lw_m3 66 rfl) rfl
theorem q600 : (Jvm.Cond.static ({ cls := "WhoseGlass", name := "isAhead", desc := "(I)Z" } : Jvm.MethodName)) ∈ lw_all := lw_g (lw_at lw_m3 67 rfl) rfl
theorem q601 : (Jvm.Cond.code ({ cls := "WhoseGlass", name := "isAhead", desc := "(I)Z" } : Jvm.MethodName) prog_1_method_26_code (1 : Nat) (Option.some Jvm.ClassFile.FieldType.boolean)) ∈ lw_all := lw_g (lw_at lw_m3 68 rfl) rfl
theorem q602 : (Jvm.Cond.methodLink "WhoseGlass" (233 : Nat) ({ cls := "WhoseGlass", name := "minds", desc := "(I)V" } : Jvm.MethodName)) ∈ lw_all := lw_g (lw_at lw_m3 69 rfl) rfl
theorem q603 : (Jvm.Cond.privateMethod ({ cls := "WhoseGlass", name := "minds", desc := "(I)V" } : Jvm.MethodName)) ∈ lw_tbl := lw_at lw_m3 70 rfl
theorem q604 : (Jvm.Cond.instanceMethod ({ cls := "WhoseGlass", name := "minds", desc := "(I)V" } : Jvm.MethodName)) ∈ lw_all := lw_g (lw_at lw_m3 71 rfl) rfl
theorem q605 : (Jvm.Cond.code ({ cls := "WhoseGlass", name := "minds", desc := "(I)V" } : Jvm.MethodName) prog_1_method_28_code (2 : Nat) (Option.none : Option Jvm.ClassFile.FieldType)) ∈ lw_all := lw_g (lw_at lw_m3 72 rfl) rfl
theorem q606 : (Jvm.Cond.methodLink "WhoseGlass" (227 : Nat) ({ cls := "WhoseGlass", name := "goes", desc := "(I)V" } : Jvm.MethodName)) ∈ lw_all := lw_g (lw_at lw_m3 73 rfl) rfl
theorem q607 : (Jvm.Cond.privateMethod ({ cls := "WhoseGlass", name := "goes", desc := "(I)V" } : Jvm.MethodName)) ∈ lw_tbl := lw_at lw_m3 74 rfl
theorem q608 : (Jvm.Cond.instanceMethod ({ cls := "WhoseGlass", name := "goes", desc := "(I)V" } : Jvm.MethodName)) ∈ lw_all := lw_g (lw_at lw_m3 75 rfl) rfl
theorem q609 : (Jvm.Cond.code ({ cls := "WhoseGlass", name := "goes", desc := "(I)V" } : Jvm.MethodName) prog_1_method_27_code (3 : Nat) (Option.none : Option Jvm.ClassFile.FieldType)) ∈ lw_all := lw_g (lw_at lw_m3 76 rfl) rfl
theorem q610 : (Jvm.Cond.methodLink "WhoseGlass" (224 : Nat) ({ cls := "WhoseGlass$House", name := "goesFreely", desc := "()V" } : Jvm.MethodName)) ∈ lw_all := lw_g (lw_at lw_m3 77 rfl) rfl
theorem q612 : (Jvm.Cond.instanceMethod ({ cls := "WhoseGlass", name := "fresh", desc := "(I)I" } : Jvm.MethodName)) ∈ lw_all := lw_g (lw_at lw_m3 79 rfl) rfl
theorem q613 : (Jvm.Cond.selects "WhoseGlass" ({ cls := "WhoseGlass", name := "fresh", desc := "(I)I" } : Jvm.MethodName) ({ cls := "WhoseGlass", name := "fresh", desc := "(I)I" } : Jvm.MethodName)) ∈ lw_all := lw_g (lw_at lw_m3 80 rfl) rfl
theorem q614 : (Jvm.Cond.code ({ cls := "WhoseGlass", name := "fresh", desc := "(I)I" } : Jvm.MethodName) prog_1_method_30_code (2 : Nat) (Option.some Jvm.ClassFile.FieldType.int)) ∈ lw_all := lw_g (lw_at lw_m3 81 rfl) rfl
theorem q616 : (Jvm.Cond.instanceMethod ({ cls := "WhoseGlass", name := "colds", desc := "(I)I" } : Jvm.MethodName)) ∈ lw_all := lw_g (lw_at lw_m3 83 rfl) rfl
theorem q617 : (Jvm.Cond.selects "WhoseGlass" ({ cls := "WhoseGlass", name := "colds", desc := "(I)I" } : Jvm.MethodName) ({ cls := "WhoseGlass", name := "colds", desc := "(I)I" } : Jvm.MethodName)) ∈ lw_all := lw_g (lw_at lw_m3 84 rfl) rfl
theorem q618 : (Jvm.Cond.code ({ cls := "WhoseGlass", name := "colds", desc := "(I)I" } : Jvm.MethodName) prog_1_method_31_code (2 : Nat) (Option.some Jvm.ClassFile.FieldType.int)) ∈ lw_all := lw_g (lw_at lw_m3 85 rfl) rfl
theorem q620 : (Jvm.Cond.instanceMethod ({ cls := "WhoseGlass", name := "had", desc := "(II)I" } : Jvm.MethodName)) ∈ lw_all := lw_g (lw_at lw_m3 87 rfl) rfl
theorem q621 : (Jvm.Cond.selects "WhoseGlass" ({ cls := "WhoseGlass", name := "had", desc := "(II)I" } : Jvm.MethodName) ({ cls := "WhoseGlass", name := "had", desc := "(II)I" } : Jvm.MethodName)) ∈ lw_all := lw_g (lw_at lw_m3 88 rfl) rfl
theorem q622 : (Jvm.Cond.code ({ cls := "WhoseGlass", name := "had", desc := "(II)I" } : Jvm.MethodName) prog_1_method_32_code (3 : Nat) (Option.some Jvm.ClassFile.FieldType.int)) ∈ lw_all := lw_g (lw_at lw_m3 89 rfl) rfl
theorem q624 : (Jvm.Cond.instanceMethod ({ cls := "WhoseGlass", name := "where", desc := "(II)I" } : Jvm.MethodName)) ∈ lw_all := lw_g (lw_at lw_m3 91 rfl) rfl
theorem q625 : (Jvm.Cond.selects "WhoseGlass" ({ cls := "WhoseGlass", name := "where", desc := "(II)I" } : Jvm.MethodName) ({ cls := "WhoseGlass", name := "where", desc := "(II)I" } : Jvm.MethodName)) ∈ lw_all := lw_g (lw_at lw_m3 92 rfl) rfl
theorem q626 : (Jvm.Cond.code ({ cls := "WhoseGlass", name := "where", desc := "(II)I" } : Jvm.MethodName) prog_1_method_33_code (3 : Nat) (Option.some Jvm.ClassFile.FieldType.int)) ∈ lw_all := lw_g (lw_at lw_m3 93 rfl) rfl
theorem q628 : (Jvm.Cond.instanceMethod ({ cls := "WhoseGlass", name := "brought", desc := "(II)I" } : Jvm.MethodName)) ∈ lw_all := lw_g (lw_at lw_m3 95 rfl) rfl
theorem q629 : (Jvm.Cond.selects "WhoseGlass" ({ cls := "WhoseGlass", name := "brought", desc := "(II)I" } : Jvm.MethodName) ({ cls := "WhoseGlass", name := "brought", desc := "(II)I" } : Jvm.MethodName)) ∈ lw_all := lw_g (lw_at lw_m3 96 rfl) rfl
theorem q630 : (Jvm.Cond.code ({ cls := "WhoseGlass", name := "brought", desc := "(II)I" } : Jvm.MethodName) prog_1_method_34_code (6 : Nat) (Option.some Jvm.ClassFile.FieldType.int)) ∈ lw_all := lw_g (lw_at lw_m3 97 rfl) rfl
theorem q632 : (Jvm.Cond.instanceMethod ({ cls := "WhoseGlass", name := "particular", desc := "(I)I" } : Jvm.MethodName)) ∈ lw_all := lw_g (lw_at lw_m3 99 rfl) rfl
theorem q633 : (Jvm.Cond.selects "WhoseGlass" ({ cls := "WhoseGlass", name := "particular", desc := "(I)I" } : Jvm.MethodName) ({ cls := "WhoseGlass", name := "particular", desc := "(I)I" } : Jvm.MethodName)) ∈ lw_all := lw_g (lw_at lw_m3 100 rfl) rfl
theorem q634 : (Jvm.Cond.code ({ cls := "WhoseGlass", name := "particular", desc := "(I)I" } : Jvm.MethodName) prog_1_method_35_code (4 : Nat) (Option.some Jvm.ClassFile.FieldType.int)) ∈ lw_all := lw_g (lw_at lw_m3 101 rfl) rfl
theorem q635 : (Jvm.Cond.methodLink "WhoseGlass" (242 : Nat) ({ cls := "WhoseGlass", name := "bits", desc := "(I)I" } : Jvm.MethodName)) ∈ lw_all := lw_g (lw_at lw_m3 102 rfl) rfl
theorem q636 : (Jvm.Cond.static ({ cls := "WhoseGlass", name := "bits", desc := "(I)I" } : Jvm.MethodName)) ∈ lw_all := lw_g (lw_at lw_m3 103 rfl) rfl
theorem q637 : (Jvm.Cond.code ({ cls := "WhoseGlass", name := "bits", desc := "(I)I" } : Jvm.MethodName) prog_1_method_3_code (3 : Nat) (Option.some Jvm.ClassFile.FieldType.int)) ∈ lw_all := lw_g (lw_at lw_m3 104 rfl) rfl
theorem q639 : (Jvm.Cond.instanceMethod ({ cls := "WhoseGlass", name := "mark", desc := "(I)I" } : Jvm.MethodName)) ∈ lw_all := lw_g (lw_at lw_m3 106 rfl) rfl
theorem q640 : (Jvm.Cond.selects "WhoseGlass" ({ cls := "WhoseGlass", name := "mark", desc := "(I)I" } : Jvm.MethodName) ({ cls := "WhoseGlass", name := "mark", desc := "(I)I" } : Jvm.MethodName)) ∈ lw_all := lw_g (lw_at lw_m3 107 rfl) rfl
theorem q641 : (Jvm.Cond.code ({ cls := "WhoseGlass", name := "mark", desc := "(I)I" } : Jvm.MethodName) prog_1_method_36_code (5 : Nat) (Option.some Jvm.ClassFile.FieldType.int)) ∈ lw_all := lw_g (lw_at lw_m3 108 rfl) rfl
theorem q643 : (Jvm.Cond.instanceMethod ({ cls := "WhoseGlass", name := "close", desc := "(I)I" } : Jvm.MethodName)) ∈ lw_all := lw_g (lw_at lw_m3 110 rfl) rfl
theorem q644 : (Jvm.Cond.selects "WhoseGlass" ({ cls := "WhoseGlass", name := "close", desc := "(I)I" } : Jvm.MethodName) ({ cls := "WhoseGlass", name := "close", desc := "(I)I" } : Jvm.MethodName)) ∈ lw_all := lw_g (lw_at lw_m3 111 rfl) rfl
theorem q645 : (Jvm.Cond.code ({ cls := "WhoseGlass", name := "close", desc := "(I)I" } : Jvm.MethodName) prog_1_method_37_code (5 : Nat) (Option.some Jvm.ClassFile.FieldType.int)) ∈ lw_all := lw_g (lw_at lw_m3 112 rfl) rfl
theorem q647 : (Jvm.Cond.instanceMethod ({ cls := "WhoseGlass", name := "driver", desc := "(I)I" } : Jvm.MethodName)) ∈ lw_all := lw_g (lw_at lw_m3 114 rfl) rfl
theorem q648 : (Jvm.Cond.selects "WhoseGlass" ({ cls := "WhoseGlass", name := "driver", desc := "(I)I" } : Jvm.MethodName) ({ cls := "WhoseGlass", name := "driver", desc := "(I)I" } : Jvm.MethodName)) ∈ lw_all := lw_g (lw_at lw_m3 115 rfl) rfl
theorem q649 : (Jvm.Cond.code ({ cls := "WhoseGlass", name := "driver", desc := "(I)I" } : Jvm.MethodName) prog_1_method_38_code (4 : Nat) (Option.some Jvm.ClassFile.FieldType.int)) ∈ lw_all := lw_g (lw_at lw_m3 116 rfl) rfl
theorem q651 : (Jvm.Cond.instanceMethod ({ cls := "WhoseGlass", name := "full", desc := "()I" } : Jvm.MethodName)) ∈ lw_all := lw_g (lw_at lw_m3 118 rfl) rfl
theorem q652 : (Jvm.Cond.selects "WhoseGlass" ({ cls := "WhoseGlass", name := "full", desc := "()I" } : Jvm.MethodName) ({ cls := "WhoseGlass", name := "full", desc := "()I" } : Jvm.MethodName)) ∈ lw_all := lw_g (lw_at lw_m3 119 rfl) rfl
theorem q653 : (Jvm.Cond.code ({ cls := "WhoseGlass", name := "full", desc := "()I" } : Jvm.MethodName) prog_1_method_39_code (2 : Nat) (Option.some Jvm.ClassFile.FieldType.int)) ∈ lw_all := lw_g (lw_at lw_m3 120 rfl) rfl
theorem q654 : (Jvm.Cond.methodLink "WhoseGlass" (248 : Nat) ({ cls := "WhoseGlass$House", name := "isEmptySomewhere", desc := "()Z" } : Jvm.MethodName)) ∈ lw_all := lw_g (lw_at lw_m3 121 rfl) rfl
theorem q659 : (Jvm.Cond.instanceMethod ({ cls := "WhoseGlass", name := "seeded", desc := "(III)I" } : Jvm.MethodName)) ∈ lw_all := lw_g (lw_at lw_m3 126 rfl) rfl
theorem q660 : (Jvm.Cond.selects "WhoseGlass" ({ cls := "WhoseGlass", name := "seeded", desc := "(III)I" } : Jvm.MethodName) ({ cls := "WhoseGlass", name := "seeded", desc := "(III)I" } : Jvm.MethodName)) ∈ lw_all := lw_g (lw_at lw_m3 127 rfl) rfl
theorem q661 : (Jvm.Cond.code ({ cls := "WhoseGlass", name := "seeded", desc := "(III)I" } : Jvm.MethodName) prog_1_method_41_code (6 : Nat) (Option.some Jvm.ClassFile.FieldType.int)) ∈ lw_all := lw_g (lw_at lw_m3 128 rfl) rfl
theorem q662 : (Jvm.Cond.methodLink "WhoseGlass" (257 : Nat) ({ cls := "WhoseGlass", name := "draw", desc := "(I)I" } : Jvm.MethodName)) ∈ lw_all := lw_g (lw_at lw_m3 129 rfl) rfl
theorem q663 : (Jvm.Cond.privateMethod ({ cls := "WhoseGlass", name := "draw", desc := "(I)I" } : Jvm.MethodName)) ∈ lw_tbl := lw_at lw_m3 130 rfl
theorem q664 : (Jvm.Cond.instanceMethod ({ cls := "WhoseGlass", name := "draw", desc := "(I)I" } : Jvm.MethodName)) ∈ lw_all := lw_g (lw_at lw_m3 131 rfl) rfl
theorem q665 : (Jvm.Cond.code ({ cls := "WhoseGlass", name := "draw", desc := "(I)I" } : Jvm.MethodName) prog_1_method_40_code (2 : Nat) (Option.some Jvm.ClassFile.FieldType.int)) ∈ lw_all := lw_g (lw_at lw_m3 132 rfl) rfl
theorem q666 : (Jvm.Cond.constant "WhoseGlass" (254 : Nat) (1103515245 : Int32)) ∈ lw_all := lw_g (lw_at lw_m3 133 rfl) rfl
theorem q667 : (Jvm.Cond.constant "WhoseGlass" (255 : Nat) (2147483647 : Int32)) ∈ lw_all := lw_g (lw_at lw_m3 134 rfl) rfl
theorem q668 : (Jvm.Cond.constant "WhoseGlass" (256 : Nat) (65536 : Int32)) ∈ lw_all := lw_g (lw_at lw_m3 135 rfl) rfl
theorem q670 : (Jvm.Cond.instanceMethod ({ cls := "WhoseGlass", name := "judge", desc := "(II)I" } : Jvm.MethodName)) ∈ lw_all := lw_g (lw_at lw_m3 137 rfl) rfl
theorem q671 : (Jvm.Cond.selects "WhoseGlass" ({ cls := "WhoseGlass", name := "judge", desc := "(II)I" } : Jvm.MethodName) ({ cls := "WhoseGlass", name := "judge", desc := "(II)I" } : Jvm.MethodName)) ∈ lw_all := lw_g (lw_at lw_m3 138 rfl) rfl
theorem q672 : (Jvm.Cond.code ({ cls := "WhoseGlass", name := "judge", desc := "(II)I" } : Jvm.MethodName) prog_1_method_45_code (6 : Nat) (Option.some Jvm.ClassFile.FieldType.int)) ∈ lw_all := lw_g (lw_at lw_m3 139 rfl) rfl
theorem q673 : (Jvm.Cond.methodLink "WhoseGlass" (270 : Nat) ({ cls := "WhoseGlass", name := "sortOf", desc := "(Ljava/lang/Object;)I" } : Jvm.MethodName)) ∈ lw_all := lw_g (lw_at lw_m3 140 rfl) rfl
theorem q674 : (Jvm.Cond.static ({ cls := "WhoseGlass", name := "sortOf", desc := "(Ljava/lang/Object;)I" } : Jvm.MethodName)) ∈ lw_all := lw_g (lw_at lw_m3 141 rfl) rfl
theorem q675 : (Jvm.Cond.code ({ cls := "WhoseGlass", name := "sortOf", desc := "(Ljava/lang/Object;)I" } : Jvm.MethodName) prog_1_method_54_code (1 : Nat) (Option.some Jvm.ClassFile.FieldType.int)) ∈ lw_all := lw_g (lw_at lw_m3 142 rfl) rfl
theorem q676 : (Jvm.Cond.classLink "WhoseGlass" (260 : Nat) "[S") ∈ lw_all := lw_g (lw_at lw_m3 143 rfl) rfl
theorem q677 : (Jvm.Cond.classLink "WhoseGlass" (262 : Nat) "[I") ∈ lw_all := lw_g (lw_at lw_m3 144 rfl) rfl
theorem q678 : (Jvm.Cond.methodLink "WhoseGlass" (274 : Nat) ({ cls := "WhoseGlass", name := "sizeOf", desc := "(Ljava/lang/Object;)I" } : Jvm.MethodName)) ∈ lw_all := lw_g (lw_at lw_m3 145 rfl) rfl
theorem q679 : (Jvm.Cond.static ({ cls := "WhoseGlass", name := "sizeOf", desc := "(Ljava/lang/Object;)I" } : Jvm.MethodName)) ∈ lw_all := lw_g (lw_at lw_m3 146 rfl) rfl
theorem q680 : (Jvm.Cond.code ({ cls := "WhoseGlass", name := "sizeOf", desc := "(Ljava/lang/Object;)I" } : Jvm.MethodName) prog_1_method_42_code (1 : Nat) (Option.some Jvm.ClassFile.FieldType.int)) ∈ lw_all := lw_g (lw_at lw_m3 147 rfl) rfl
theorem q681 : (Jvm.Cond.methodLink "WhoseGlass" (277 : Nat) ({ cls := "WhoseGlass", name := "elementOf", desc := "(Ljava/lang/Object;I)I" } : Jvm.MethodName)) ∈ lw_all := lw_g (lw_at lw_m3 148 rfl) rfl
theorem q682 : (Jvm.Cond.static ({ cls := "WhoseGlass", name := "elementOf", desc := "(Ljava/lang/Object;I)I" } : Jvm.MethodName)) ∈ lw_all := lw_g (lw_at lw_m3 149 rfl) rfl
theorem q683 : (Jvm.Cond.code ({ cls := "WhoseGlass", name := "elementOf", desc := "(Ljava/lang/Object;I)I" } : Jvm.MethodName) prog_1_method_43_code (2 : Nat) (Option.some Jvm.ClassFile.FieldType.int)) ∈ lw_all := lw_g (lw_at lw_m3 150 rfl) rfl
theorem q684 : (Jvm.Cond.methodLink "WhoseGlass" (281 : Nat) ({ cls := "WhoseGlass", name := "leastOf", desc := "(Ljava/lang/Object;)I" } : Jvm.MethodName)) ∈ lw_all := lw_g (lw_at lw_m3 151 rfl) rfl
theorem q685 : (Jvm.Cond.static ({ cls := "WhoseGlass", name := "leastOf", desc := "(Ljava/lang/Object;)I" } : Jvm.MethodName)) ∈ lw_all := lw_g (lw_at lw_m3 152 rfl) rfl
theorem q686 : (Jvm.Cond.code ({ cls := "WhoseGlass", name := "leastOf", desc := "(Ljava/lang/Object;)I" } : Jvm.MethodName) prog_1_method_44_code (1 : Nat) (Option.some Jvm.ClassFile.FieldType.int)) ∈ lw_all := lw_g (lw_at lw_m3 153 rfl) rfl
theorem q687 : (Jvm.Cond.constant "WhoseGlass" (269 : Nat) (-2147483648 : Int32)) ∈ lw_all := lw_g (lw_at lw_m3 154 rfl) rfl
theorem q689 : (Jvm.Cond.instanceMethod ({ cls := "WhoseGlass", name := "image", desc := "()I" } : Jvm.MethodName)) ∈ lw_all := lw_g (lw_at lw_m3 156 rfl) rfl
theorem q690 : (Jvm.Cond.selects "WhoseGlass" ({ cls := "WhoseGlass", name := "image", desc := "()I" } : Jvm.MethodName) ({ cls := "WhoseGlass", name := "image", desc := "()I" } : Jvm.MethodName)) ∈ lw_all := lw_g (lw_at lw_m3 157 rfl) rfl
theorem q691 : (Jvm.Cond.code ({ cls := "WhoseGlass", name := "image", desc := "()I" } : Jvm.MethodName) prog_1_method_46_code (1 : Nat) (Option.some Jvm.ClassFile.FieldType.int)) ∈ lw_all := lw_g (lw_at lw_m3 158 rfl) rfl
theorem q693 : (Jvm.Cond.instanceMethod ({ cls := "WhoseGlass", name := "restore", desc := "()I" } : Jvm.MethodName)) ∈ lw_all := lw_g (lw_at lw_m3 160 rfl) rfl
theorem q694 : (Jvm.Cond.selects "WhoseGlass" ({ cls := "WhoseGlass", name := "restore", desc := "()I" } : Jvm.MethodName) ({ cls := "WhoseGlass", name := "restore", desc := "()I" } : Jvm.MethodName)) ∈ lw_all := lw_g (lw_at lw_m3 161 rfl) rfl
theorem q695 : (Jvm.Cond.code ({ cls := "WhoseGlass", name := "restore", desc := "()I" } : Jvm.MethodName) prog_1_method_47_code (1 : Nat) (Option.some Jvm.ClassFile.FieldType.int)) ∈ lw_all := lw_g (lw_at lw_m3 162 rfl) rfl
theorem q697 : (Jvm.Cond.instanceMethod ({ cls := "WhoseGlass", name := "count", desc := "(I)I" } : Jvm.MethodName)) ∈ lw_all := lw_g (lw_at lw_m3 164 rfl) rfl
theorem q698 : (Jvm.Cond.selects "WhoseGlass" ({ cls := "WhoseGlass", name := "count", desc := "(I)I" } : Jvm.MethodName) ({ cls := "WhoseGlass", name := "count", desc := "(I)I" } : Jvm.MethodName)) ∈ lw_all := lw_g (lw_at lw_m3 165 rfl) rfl
theorem q699 : (Jvm.Cond.code ({ cls := "WhoseGlass", name := "count", desc := "(I)I" } : Jvm.MethodName) prog_1_method_48_code (4 : Nat) (Option.some Jvm.ClassFile.FieldType.int)) ∈ lw_all := lw_g (lw_at lw_m3 166 rfl) rfl
theorem q702 : (Jvm.Cond.instanceMethod ({ cls := "WhoseGlass", name := "<init>", desc := "()V" } : Jvm.MethodName)) ∈ lw_all := lw_g (lw_at lw_m3 169 rfl) rfl
theorem q703 : (Jvm.Cond.code ({ cls := "WhoseGlass", name := "<init>", desc := "()V" } : Jvm.MethodName) prog_1_method_49_code (2 : Nat) (Option.none : Option Jvm.ClassFile.FieldType)) ∈ lw_all := lw_g (lw_at lw_m3 170 rfl) rfl
theorem q704 : (Jvm.Cond.methodLink "WhoseGlass" (291 : Nat) ({ cls := "java/lang/Object", name := "<init>", desc := "()V" } : Jvm.MethodName)) ∈ lw_all := lw_g (lw_at lw_m3 171 rfl) rfl
theorem q705 : (Jvm.Cond.classLink "WhoseGlass" (57 : Nat) "WhoseGlass$House") ∈ lw_all := lw_g (lw_at lw_m3 172 rfl) rfl
theorem q706 : (Jvm.Cond.methodLinkNest "WhoseGlass" (295 : Nat) ({ cls := "WhoseGlass$House", name := "<init>", desc := "()V" } : Jvm.MethodName) "WhoseGlass") ∈ lw_tbl := lw_at lw_m3 173 rfl
theorem q712 : (Jvm.Cond.fieldLink "WhoseGlass" (141 : Nat) "WhoseGlass$House" "glass" "[LWhoseGlass$Glass;") ∈ lw_all := lw_g (lw_at lw_m3 179 rfl) rfl
theorem q714 : (Jvm.Cond.fieldLink "WhoseGlass" (151 : Nat) "WhoseGlass$House" "fill" "[I") ∈ lw_all := lw_g (lw_at lw_m3 181 rfl) rfl
theorem q716 : (Jvm.Cond.fieldLink "WhoseGlass" (154 : Nat) "WhoseGlass$House" "where" "[I") ∈ lw_all := lw_g (lw_at lw_m3 183 rfl) rfl
theorem q718 : (Jvm.Cond.fieldLink "WhoseGlass" (164 : Nat) "WhoseGlass$House" "laid" "[I") ∈ lw_all := lw_g (lw_at lw_m3 185 rfl) rfl
theorem q720 : (Jvm.Cond.fieldLink "WhoseGlass" (157 : Nat) "WhoseGlass$House" "sipped" "[I") ∈ lw_all := lw_g (lw_at lw_m3 187 rfl) rfl
theorem q722 : (Jvm.Cond.fieldLink "WhoseGlass" (160 : Nat) "WhoseGlass$House" "germs" "[Z") ∈ lw_all := lw_g (lw_at lw_m3 189 rfl) rfl
theorem q724 : (Jvm.Cond.fieldLink "WhoseGlass" (167 : Nat) "WhoseGlass$House" "pace" "[I") ∈ lw_all := lw_g (lw_at lw_m3 191 rfl) rfl
theorem q726 : (Jvm.Cond.fieldLink "WhoseGlass" (170 : Nat) "WhoseGlass$House" "lays" "[I") ∈ lw_all := lw_g (lw_at lw_m3 193 rfl) rfl
theorem q728 : (Jvm.Cond.fieldLink "WhoseGlass" (173 : Nat) "WhoseGlass$House" "step" "[I") ∈ lw_all := lw_g (lw_at lw_m3 195 rfl) rfl
theorem q730 : (Jvm.Cond.fieldLink "WhoseGlass" (176 : Nat) "WhoseGlass$House" "care" "[I") ∈ lw_all := lw_g (lw_at lw_m3 197 rfl) rfl
theorem q732 : (Jvm.Cond.fieldLink "WhoseGlass" (179 : Nat) "WhoseGlass$House" "place" "[I") ∈ lw_all := lw_g (lw_at lw_m3 199 rfl) rfl
theorem q734 : (Jvm.Cond.fieldLink "WhoseGlass" (72 : Nat) "WhoseGlass$House" "holds" "[I") ∈ lw_all := lw_g (lw_at lw_m3 201 rfl) rfl
theorem q736 : (Jvm.Cond.fieldLink "WhoseGlass" (180 : Nat) "WhoseGlass$House" "own" "[I") ∈ lw_all := lw_g (lw_at lw_m3 203 rfl) rfl
theorem q738 : (Jvm.Cond.fieldLink "WhoseGlass" (183 : Nat) "WhoseGlass$House" "had" "[I") ∈ lw_all := lw_g (lw_at lw_m3 205 rfl) rfl
theorem q740 : (Jvm.Cond.fieldLink "WhoseGlass" (186 : Nat) "WhoseGlass$House" "glasses" "I") ∈ lw_all := lw_g (lw_at lw_m3 207 rfl) rfl
theorem q742 : (Jvm.Cond.fieldLink "WhoseGlass" (215 : Nat) "WhoseGlass$House" "guests" "I") ∈ lw_all := lw_g (lw_at lw_m3 209 rfl) rfl
theorem q744 : (Jvm.Cond.fieldLink "WhoseGlass" (86 : Nat) "WhoseGlass$House" "tray" "I") ∈ lw_all := lw_g (lw_at lw_m3 211 rfl) rfl
theorem q746 : (Jvm.Cond.fieldLink "WhoseGlass" (199 : Nat) "WhoseGlass$House" "minute" "I") ∈ lw_all := lw_g (lw_at lw_m3 213 rfl) rfl
theorem q748 : (Jvm.Cond.fieldLink "WhoseGlass" (82 : Nat) "WhoseGlass$House" "colds" "I") ∈ lw_all := lw_g (lw_at lw_m3 215 rfl) rfl
theorem q750 : (Jvm.Cond.fieldLink "WhoseGlass" (245 : Nat) "WhoseGlass$House" "closed" "I") ∈ lw_all := lw_g (lw_at lw_m3 217 rfl) rfl
theorem q752 : (Jvm.Cond.fieldLink "WhoseGlass" (236 : Nat) "WhoseGlass$House" "mistakes" "I") ∈ lw_all := lw_g (lw_at lw_m3 219 rfl) rfl
theorem q754 : (Jvm.Cond.fieldLink "WhoseGlass" (239 : Nat) "WhoseGlass$House" "fresh" "I") ∈ lw_all := lw_g (lw_at lw_m3 221 rfl) rfl
theorem q801 : (Jvm.Cond.classLink "WhoseGlass" (101 : Nat) "WhoseGlass$Shelf") ∈ lw_all := lw_g (lw_at lw_m4 28 rfl) rfl
theorem q804 : (Jvm.Cond.methodLinkNest "WhoseGlass" (296 : Nat) ({ cls := "WhoseGlass$Shelf", name := "<init>", desc := "()V" } : Jvm.MethodName) "WhoseGlass") ∈ lw_tbl := lw_at lw_m4 31 rfl
theorem q808 : (Jvm.Cond.fieldLink "WhoseGlass" (100 : Nat) "WhoseGlass$Shelf" "held" "Ljava/lang/Object;") ∈ lw_all := lw_g (lw_at lw_m4 35 rfl) rfl
theorem q812 : (Jvm.Cond.fieldLink "WhoseGlass" (48 : Nat) "WhoseGlass" "house" "LWhoseGlass$House;") ∈ lw_all := lw_g (lw_at lw_m4 39 rfl) rfl
theorem q813 : (Jvm.Cond.fieldLink "WhoseGlass" (108 : Nat) "WhoseGlass" "tried" "LWhoseGlass$House;") ∈ lw_all := lw_g (lw_at lw_m4 40 rfl) rfl
theorem q814 : (Jvm.Cond.fieldLink "WhoseGlass" (284 : Nat) "WhoseGlass" "kept" "LWhoseGlass$House;") ∈ lw_all := lw_g (lw_at lw_m4 41 rfl) rfl
theorem q815 : (Jvm.Cond.fieldLink "WhoseGlass" (221 : Nat) "WhoseGlass" "mind" "LWhoseGlass$House;") ∈ lw_all := lw_g (lw_at lw_m4 42 rfl) rfl
theorem q816 : (Jvm.Cond.fieldLink "WhoseGlass" (287 : Nat) "WhoseGlass" "hasImage" "Z") ∈ lw_all := lw_g (lw_at lw_m4 43 rfl) rfl
theorem q817 : (Jvm.Cond.fieldLink "WhoseGlass" (251 : Nat) "WhoseGlass" "lots" "I") ∈ lw_all := lw_g (lw_at lw_m4 44 rfl) rfl
theorem q818 : (Jvm.Cond.fieldLink "WhoseGlass" (96 : Nat) "WhoseGlass" "shelves" "[LWhoseGlass$Shelf;") ∈ lw_all := lw_g (lw_at lw_m4 45 rfl) rfl
theorem q819 : (Jvm.Cond.laysFinal "WhoseGlass" "WhoseGlass" "house" "LWhoseGlass$House;") ∈ lw_all := lw_g (lw_at lw_m4 46 rfl) rfl
theorem q820 : (Jvm.Cond.soleField "WhoseGlass" "house") ∈ lw_all := lw_g (lw_at lw_m4 47 rfl) rfl
theorem q821 : (Jvm.Cond.laysFinal "WhoseGlass" "WhoseGlass" "tried" "LWhoseGlass$House;") ∈ lw_all := lw_g (lw_at lw_m4 48 rfl) rfl
theorem q822 : (Jvm.Cond.soleField "WhoseGlass" "tried") ∈ lw_all := lw_g (lw_at lw_m4 49 rfl) rfl
theorem q823 : (Jvm.Cond.laysFinal "WhoseGlass" "WhoseGlass" "kept" "LWhoseGlass$House;") ∈ lw_all := lw_g (lw_at lw_m4 50 rfl) rfl
theorem q824 : (Jvm.Cond.soleField "WhoseGlass" "kept") ∈ lw_all := lw_g (lw_at lw_m4 51 rfl) rfl
theorem q825 : (Jvm.Cond.laysFinal "WhoseGlass" "WhoseGlass" "mind" "LWhoseGlass$House;") ∈ lw_all := lw_g (lw_at lw_m4 52 rfl) rfl
theorem q826 : (Jvm.Cond.soleField "WhoseGlass" "mind") ∈ lw_all := lw_g (lw_at lw_m4 53 rfl) rfl
theorem q827 : (Jvm.Cond.lays "WhoseGlass" "WhoseGlass" "hasImage" "Z") ∈ lw_all := lw_g (lw_at lw_m4 54 rfl) rfl
theorem q828 : (Jvm.Cond.soleField "WhoseGlass" "hasImage") ∈ lw_all := lw_g (lw_at lw_m4 55 rfl) rfl
theorem q829 : (Jvm.Cond.lays "WhoseGlass" "WhoseGlass" "lots" "I") ∈ lw_all := lw_g (lw_at lw_m4 56 rfl) rfl
theorem q830 : (Jvm.Cond.soleField "WhoseGlass" "lots") ∈ lw_all := lw_g (lw_at lw_m4 57 rfl) rfl
theorem q831 : (Jvm.Cond.laysFinal "WhoseGlass" "WhoseGlass" "shelves" "[LWhoseGlass$Shelf;") ∈ lw_all := lw_g (lw_at lw_m4 58 rfl) rfl
theorem q832 : (Jvm.Cond.soleField "WhoseGlass" "shelves") ∈ lw_all := lw_g (lw_at lw_m4 59 rfl) rfl
theorem q833 : (Jvm.Cond.superclass "WhoseGlass" "java/lang/Object") ∈ lw_all := lw_g (lw_at lw_m4 60 rfl) rfl
theorem q835 : (Jvm.Cond.instanceMethod ({ cls := "WhoseGlass", name := "keep", desc := "(IIII)I" } : Jvm.MethodName)) ∈ lw_all := lw_g (lw_at lw_m4 62 rfl) rfl
theorem q836 : (Jvm.Cond.selects "WhoseGlass" ({ cls := "WhoseGlass", name := "keep", desc := "(IIII)I" } : Jvm.MethodName) ({ cls := "WhoseGlass", name := "keep", desc := "(IIII)I" } : Jvm.MethodName)) ∈ lw_all := lw_g (lw_at lw_m4 63 rfl) rfl
theorem q837 : (Jvm.Cond.code ({ cls := "WhoseGlass", name := "keep", desc := "(IIII)I" } : Jvm.MethodName) prog_1_method_50_code (5 : Nat) (Option.some Jvm.ClassFile.FieldType.int)) ∈ lw_all := lw_g (lw_at lw_m4 64 rfl) rfl
theorem q839 : (Jvm.Cond.instanceMethod ({ cls := "WhoseGlass", name := "row", desc := "(III)I" } : Jvm.MethodName)) ∈ lw_all := lw_g (lw_at lw_m4 66 rfl) rfl
theorem q840 : (Jvm.Cond.selects "WhoseGlass" ({ cls := "WhoseGlass", name := "row", desc := "(III)I" } : Jvm.MethodName) ({ cls := "WhoseGlass", name := "row", desc := "(III)I" } : Jvm.MethodName)) ∈ lw_all := lw_g (lw_at lw_m4 67 rfl) rfl
theorem q841 : (Jvm.Cond.codeWith ({ cls := "WhoseGlass", name := "row", desc := "(III)I" } : Jvm.MethodName) prog_1_method_51_code (5 : Nat) (Option.some Jvm.ClassFile.FieldType.int) [((24 : Nat), (66 : Nat), (67 : Nat), (297 : Nat))]) ∈ lw_all := lw_g (lw_at lw_m4 68 rfl) rfl
theorem q842 : (Jvm.Cond.classLink "WhoseGlass" (297 : Nat) "java/lang/NegativeArraySizeException") ∈ lw_all := lw_g (lw_at lw_m4 69 rfl) rfl
theorem q872 : (Jvm.Cond.instanceMethod ({ cls := "WhoseGlass", name := "put", desc := "(III)I" } : Jvm.MethodName)) ∈ lw_all := lw_g (lw_at lw_m4 99 rfl) rfl
theorem q873 : (Jvm.Cond.selects "WhoseGlass" ({ cls := "WhoseGlass", name := "put", desc := "(III)I" } : Jvm.MethodName) ({ cls := "WhoseGlass", name := "put", desc := "(III)I" } : Jvm.MethodName)) ∈ lw_all := lw_g (lw_at lw_m4 100 rfl) rfl
theorem q874 : (Jvm.Cond.codeWith ({ cls := "WhoseGlass", name := "put", desc := "(III)I" } : Jvm.MethodName) prog_1_method_52_code (6 : Nat) (Option.some Jvm.ClassFile.FieldType.int) [((28 : Nat), (77 : Nat), (78 : Nat), (299 : Nat)), ((28 : Nat), (77 : Nat), (83 : Nat), (301 : Nat))]) ∈ lw_all := lw_g (lw_at lw_m4 101 rfl) rfl
theorem q875 : (Jvm.Cond.classLink "WhoseGlass" (299 : Nat) "java/lang/ClassCastException") ∈ lw_all := lw_g (lw_at lw_m4 102 rfl) rfl
theorem q889 : (Jvm.Cond.classLink "WhoseGlass" (301 : Nat) "java/lang/ArrayIndexOutOfBoundsException") ∈ lw_all := lw_g (lw_at lw_m4 116 rfl) rfl
theorem q909 : (Jvm.Cond.instanceMethod ({ cls := "WhoseGlass", name := "copy", desc := "(IIIII)I" } : Jvm.MethodName)) ∈ lw_all := lw_g (lw_at lw_m4 136 rfl) rfl
theorem q910 : (Jvm.Cond.selects "WhoseGlass" ({ cls := "WhoseGlass", name := "copy", desc := "(IIIII)I" } : Jvm.MethodName) ({ cls := "WhoseGlass", name := "copy", desc := "(IIIII)I" } : Jvm.MethodName)) ∈ lw_all := lw_g (lw_at lw_m4 137 rfl) rfl
theorem q911 : (Jvm.Cond.codeWith ({ cls := "WhoseGlass", name := "copy", desc := "(IIIII)I" } : Jvm.MethodName) prog_1_method_55_code (9 : Nat) (Option.some Jvm.ClassFile.FieldType.int) [((76 : Nat), (90 : Nat), (91 : Nat), (317 : Nat))]) ∈ lw_all := lw_g (lw_at lw_m4 138 rfl) rfl
theorem q912 : (Jvm.Cond.classLink "WhoseGlass" (317 : Nat) "java/lang/IndexOutOfBoundsException") ∈ lw_all := lw_g (lw_at lw_m4 139 rfl) rfl
theorem q913 : (Jvm.Cond.methodLink "WhoseGlass" (311 : Nat) ({ cls := "java/lang/System", name := "arraycopy", desc := "(Ljava/lang/Object;ILjava/lang/Object;II)V" } : Jvm.MethodName)) ∈ lw_all := lw_g (lw_at lw_m4 140 rfl) rfl
theorem q915 : (Jvm.Cond.instanceMethod ({ cls := "WhoseGlass", name := "cost", desc := "(I)I" } : Jvm.MethodName)) ∈ lw_all := lw_g (lw_at lw_m4 142 rfl) rfl
theorem q916 : (Jvm.Cond.selects "WhoseGlass" ({ cls := "WhoseGlass", name := "cost", desc := "(I)I" } : Jvm.MethodName) ({ cls := "WhoseGlass", name := "cost", desc := "(I)I" } : Jvm.MethodName)) ∈ lw_all := lw_g (lw_at lw_m4 143 rfl) rfl
theorem q917 : (Jvm.Cond.codeWith ({ cls := "WhoseGlass", name := "cost", desc := "(I)I" } : Jvm.MethodName) prog_1_method_56_code (3 : Nat) (Option.some Jvm.ClassFile.FieldType.int) [((9 : Nat), (24 : Nat), (25 : Nat), (306 : Nat)), ((9 : Nat), (24 : Nat), (29 : Nat), (299 : Nat))]) ∈ lw_all := lw_g (lw_at lw_m4 144 rfl) rfl
theorem q918 : (Jvm.Cond.classLink "WhoseGlass" (306 : Nat) "java/lang/NullPointerException") ∈ lw_all := lw_g (lw_at lw_m4 145 rfl) rfl
theorem q968 : (Jvm.Cond.instanceMethod ({ cls := "WhoseGlass", name := "toss", desc := "(I)I" } : Jvm.MethodName)) ∈ lw_all := lw_g (lw_at lw_m4 195 rfl) rfl
theorem q969 : (Jvm.Cond.selects "WhoseGlass" ({ cls := "WhoseGlass", name := "toss", desc := "(I)I" } : Jvm.MethodName) ({ cls := "WhoseGlass", name := "toss", desc := "(I)I" } : Jvm.MethodName)) ∈ lw_all := lw_g (lw_at lw_m4 196 rfl) rfl
theorem q970 : (Jvm.Cond.codeWith ({ cls := "WhoseGlass", name := "toss", desc := "(I)I" } : Jvm.MethodName) prog_1_method_57_code (3 : Nat) (Option.some Jvm.ClassFile.FieldType.int) [((24 : Nat), (40 : Nat), (40 : Nat), (326 : Nat)), ((24 : Nat), (40 : Nat), (46 : Nat), (306 : Nat)), ((24 : Nat), (40 : Nat), (50 : Nat), (299 : Nat))]) ∈ lw_all := lw_g (lw_at lw_m4 197 rfl) rfl
theorem q971 : (Jvm.Cond.classLink "WhoseGlass" (326 : Nat) "WhoseGlass$Tossed") ∈ lw_all := lw_g (lw_at lw_m4 198 rfl) rfl
theorem q972 : (Jvm.Cond.methodLink "WhoseGlass" (322 : Nat) ({ cls := "WhoseGlass$Glass", name := "failure", desc := "()LWhoseGlass$Tossed;" } : Jvm.MethodName)) ∈ lw_all := lw_g (lw_at lw_m4 199 rfl) rfl
theorem q994 : (Jvm.Cond.fieldLink "WhoseGlass" (328 : Nat) "WhoseGlass$Tossed" "n" "I") ∈ lw_all := lw_g (lw_at lw_m4 221 rfl) rfl
theorem q1033 : (Jvm.Cond.instanceMethod ({ cls := "WhoseGlass", name := "element", desc := "(II)J" } : Jvm.MethodName)) ∈ lw_all := lw_g (lw_at lw_m5 20 rfl) rfl
theorem q1034 : (Jvm.Cond.selects "WhoseGlass" ({ cls := "WhoseGlass", name := "element", desc := "(II)J" } : Jvm.MethodName) ({ cls := "WhoseGlass", name := "element", desc := "(II)J" } : Jvm.MethodName)) ∈ lw_all := lw_g (lw_at lw_m5 21 rfl) rfl
theorem q1035 : (Jvm.Cond.codeWith ({ cls := "WhoseGlass", name := "element", desc := "(II)J" } : Jvm.MethodName) prog_1_method_53_code (5 : Nat) (Option.some Jvm.ClassFile.FieldType.long) [((25 : Nat), (39 : Nat), (63 : Nat), (306 : Nat)), ((40 : Nat), (54 : Nat), (63 : Nat), (306 : Nat)), ((55 : Nat), (62 : Nat), (63 : Nat), (306 : Nat)), ((25 : Nat), (39 : Nat), (73 : Nat), (299 : Nat)), ((40 : Nat), (54 : Nat), (73 : Nat), (299 : Nat)), ((55 : Nat), (62 : Nat), (73 : Nat), (299 : Nat)), ((25 : Nat), (39 : Nat), (83 : Nat), (301 : Nat)), ((40 : Nat), (54 : Nat), (83 : Nat), (301 : Nat)), ((55 : Nat), (62 : Nat), (83 : Nat), (301 : Nat))]) ∈ lw_all := lw_g (lw_at lw_m5 22 rfl) rfl
theorem q1036 : (Jvm.Cond.classLink "WhoseGlass" (303 : Nat) "java/lang/IllegalArgumentException") ∈ lw_all := lw_g (lw_at lw_m5 23 rfl) rfl
theorem q1045 : (Jvm.Cond.methodLink "WhoseGlass" (305 : Nat) ({ cls := "java/lang/IllegalArgumentException", name := "<init>", desc := "()V" } : Jvm.MethodName)) ∈ lw_all := lw_g (lw_at lw_m5 32 rfl) rfl
theorem q1051 : (Jvm.Cond.classLink "WhoseGlass" (308 : Nat) "java/lang/IllegalStateException") ∈ lw_all := lw_g (lw_at lw_m5 38 rfl) rfl
theorem q1060 : (Jvm.Cond.methodLink "WhoseGlass" (310 : Nat) ({ cls := "java/lang/IllegalStateException", name := "<init>", desc := "()V" } : Jvm.MethodName)) ∈ lw_all := lw_g (lw_at lw_m5 47 rfl) rfl
theorem in_X1 : ∀ w ∈ wsX10, w ∈ lw_all := lw_in wsX10 [819, 821, 823, 825, 827, 829, 831] (by decide +kernel) (by decide +kernel)

/-! Burrowline -/
set_option maxRecDepth 100000
def RX1 : String := "Burrowline"
def TX1 : u_T := fun k => match k with
  | 0 => ("Burrowline", "now", "I", false)
  | 1 => ("Burrowline", "made", "I", false)
  | 2 => ("Burrowline", "delivered", "I", false)
  | 3 => ("Burrowline", "addresses", "[I", true)
  | 4 => ("Burrowline", "loaded", "[Z", true)
  | 5 => ("Burrowline", "tables", "[LBurrowline$Table;", true)
  | 6 => ("Burrowline", "sides", "[[LBurrowline$Side;", true)
  | 7 => ("Burrowline", "letters", "Ljava/util/ArrayList;", true)
  | 8 => ("Burrowline", "packetRows", "Ljava/util/ArrayList;", true)
  | _ => ("Burrowline", "codes", "[I", true)
def tyX1 : Nat → FieldType := fun k => match k with
  | 0 => .int
  | 1 => .int
  | 2 => .int
  | 3 => .array .int
  | 4 => .array .boolean
  | 5 => .array (.object "Burrowline$Table")
  | 6 => .array (.array (.object "Burrowline$Side"))
  | 7 => .object "java/util/ArrayList"
  | 8 => .object "java/util/ArrayList"
  | _ => .array .int
abbrev wsX10 : List Cond := u_ws RX1 TX1 10
theorem nmX1 : ∀ a, a < 10 → ∀ b, b < 10 → a ≠ b → (TX1 a).2.1 ≠ (TX1 b).2.1 := by decide +kernel
theorem tyX1_ok : ∀ k, k < 10 → parseFieldDescriptor (TX1 k).2.2.1 = some (tyX1 k) := by decide +kernel
abbrev cX1_init : ByteArray := prog_1_method_1_code
def yX1_init : MethodName := ⟨RX1, "<init>", "()V"⟩
def dkwX1_init_6 : List UInt8 := [180, 0, 7, 28, 46, 183, 0, 48, 83, 132, 2, 1, 167, 255, 227, 132, 1, 1, 167, 255, 186, 177]
abbrev dktX1_init_6 : List UInt8 := dkwX1_init_6 ++ []
def dkwX1_init_5 : List UInt8 := [182, 0, 42, 87, 3, 61, 28, 6, 162, 0, 30, 42, 180, 0, 25, 27, 50, 28, 187, 0, 46, 89, 42]
abbrev dktX1_init_5 : List UInt8 := dkwX1_init_5 ++ dktX1_init_6
def dkwX1_init_4 : List UInt8 := [180, 0, 19, 27, 187, 0, 17, 89, 183, 0, 41, 83, 42, 180, 0, 35, 187, 0, 28, 89, 183, 0, 30]
abbrev dktX1_init_4 : List UInt8 := dkwX1_init_4 ++ dktX1_init_5
def dkwX1_init_3 : List UInt8 := [183, 0, 30, 181, 0, 35, 42, 16, 11, 188, 10, 181, 0, 38, 3, 60, 27, 6, 162, 0, 71, 42]
abbrev dktX1_init_3 : List UInt8 := dkwX1_init_3 ++ dktX1_init_4
def dkwX1_init_2 : List UInt8 := [197, 0, 23, 2, 181, 0, 25, 42, 187, 0, 28, 89, 183, 0, 30, 181, 0, 31, 42, 187, 0, 28, 89]
abbrev dktX1_init_2 : List UInt8 := dkwX1_init_2 ++ dktX1_init_3
def dkwX1_init_1 : List UInt8 := [181, 0, 7, 42, 6, 188, 4, 181, 0, 13, 42, 6, 189, 0, 17, 181, 0, 19, 42, 6, 6]
abbrev dktX1_init_1 : List UInt8 := dkwX1_init_1 ++ dktX1_init_2
def dkwX1_init_0 : List UInt8 := [42, 183, 0, 1, 42, 6, 188, 10, 89, 3, 16, 10, 79, 89, 4, 16, 20, 79, 89, 5, 16, 30, 79]
abbrev dktX1_init_0 : List UInt8 := dkwX1_init_0 ++ dktX1_init_1
theorem dksX1_init_0 : cX1_init.data.toList.drop 0 = dktX1_init_0 := by decide +kernel
theorem dksX1_init_1 : cX1_init.data.toList.drop 23 = dktX1_init_1 := dk_seg dksX1_init_0 23 rfl rfl
theorem dksX1_init_2 : cX1_init.data.toList.drop 44 = dktX1_init_2 := dk_seg dksX1_init_1 21 rfl rfl
theorem dksX1_init_3 : cX1_init.data.toList.drop 67 = dktX1_init_3 := dk_seg dksX1_init_2 23 rfl rfl
theorem dksX1_init_4 : cX1_init.data.toList.drop 89 = dktX1_init_4 := dk_seg dksX1_init_3 22 rfl rfl
theorem dksX1_init_5 : cX1_init.data.toList.drop 112 = dktX1_init_5 := dk_seg dksX1_init_4 23 rfl rfl
theorem dksX1_init_6 : cX1_init.data.toList.drop 135 = dktX1_init_6 := dk_seg dksX1_init_5 23 rfl rfl
theorem dX1_init_0 : decode cX1_init 0 = .ok (.aload_n 0, 1) := dk_42 (dk_at dksX1_init_0 0 rfl rfl)
theorem dX1_init_1 : decode cX1_init 1 = .ok (.invokespecial 1, 3) := dk_183 0 1 (dk_at dksX1_init_0 1 rfl rfl)
theorem dX1_init_4 : decode cX1_init 4 = .ok (.aload_n 0, 1) := dk_42 (dk_at dksX1_init_0 4 rfl rfl)
theorem dX1_init_5 : decode cX1_init 5 = .ok (.iconst 3, 1) := dk_6 (dk_at dksX1_init_0 5 rfl rfl)
theorem dX1_init_6 : decode cX1_init 6 = .ok (.newarray .int, 2) := dk_188_10 (dk_at dksX1_init_0 6 rfl rfl)
theorem dX1_init_8 : decode cX1_init 8 = .ok (.dup, 1) := dk_89 (dk_at dksX1_init_0 8 rfl rfl)
theorem dX1_init_9 : decode cX1_init 9 = .ok (.iconst 0, 1) := dk_3 (dk_at dksX1_init_0 9 rfl rfl)
theorem dX1_init_10 : decode cX1_init 10 = .ok (.bipush 10, 2) := dk_16 10 (dk_at dksX1_init_0 10 rfl rfl)
theorem dX1_init_12 : decode cX1_init 12 = .ok (.iastore, 1) := dk_79 (dk_at dksX1_init_0 12 rfl rfl)
theorem dX1_init_13 : decode cX1_init 13 = .ok (.dup, 1) := dk_89 (dk_at dksX1_init_0 13 rfl rfl)
theorem dX1_init_14 : decode cX1_init 14 = .ok (.iconst 1, 1) := dk_4 (dk_at dksX1_init_0 14 rfl rfl)
theorem dX1_init_15 : decode cX1_init 15 = .ok (.bipush 20, 2) := dk_16 20 (dk_at dksX1_init_0 15 rfl rfl)
theorem dX1_init_17 : decode cX1_init 17 = .ok (.iastore, 1) := dk_79 (dk_at dksX1_init_0 17 rfl rfl)
theorem dX1_init_18 : decode cX1_init 18 = .ok (.dup, 1) := dk_89 (dk_at dksX1_init_0 18 rfl rfl)
theorem dX1_init_19 : decode cX1_init 19 = .ok (.iconst 2, 1) := dk_5 (dk_at dksX1_init_0 19 rfl rfl)
theorem dX1_init_20 : decode cX1_init 20 = .ok (.bipush 30, 2) := dk_16 30 (dk_at dksX1_init_0 20 rfl rfl)
theorem dX1_init_22 : decode cX1_init 22 = .ok (.iastore, 1) := dk_79 (dk_at dksX1_init_0 22 rfl rfl)
theorem dX1_init_23 : decode cX1_init 23 = .ok (.putfield 7, 3) := dk_181 0 7 (dk_at dksX1_init_1 0 rfl rfl)
theorem dX1_init_26 : decode cX1_init 26 = .ok (.aload_n 0, 1) := dk_42 (dk_at dksX1_init_1 3 rfl rfl)
theorem dX1_init_27 : decode cX1_init 27 = .ok (.iconst 3, 1) := dk_6 (dk_at dksX1_init_1 4 rfl rfl)
theorem dX1_init_28 : decode cX1_init 28 = .ok (.newarray .boolean, 2) := dk_188_4 (dk_at dksX1_init_1 5 rfl rfl)
theorem dX1_init_30 : decode cX1_init 30 = .ok (.putfield 13, 3) := dk_181 0 13 (dk_at dksX1_init_1 7 rfl rfl)
theorem dX1_init_33 : decode cX1_init 33 = .ok (.aload_n 0, 1) := dk_42 (dk_at dksX1_init_1 10 rfl rfl)
theorem dX1_init_34 : decode cX1_init 34 = .ok (.iconst 3, 1) := dk_6 (dk_at dksX1_init_1 11 rfl rfl)
theorem dX1_init_35 : decode cX1_init 35 = .ok (.anewarray 17, 3) := dk_189 0 17 (dk_at dksX1_init_1 12 rfl rfl)
theorem dX1_init_38 : decode cX1_init 38 = .ok (.putfield 19, 3) := dk_181 0 19 (dk_at dksX1_init_1 15 rfl rfl)
theorem dX1_init_41 : decode cX1_init 41 = .ok (.aload_n 0, 1) := dk_42 (dk_at dksX1_init_1 18 rfl rfl)
theorem dX1_init_42 : decode cX1_init 42 = .ok (.iconst 3, 1) := dk_6 (dk_at dksX1_init_1 19 rfl rfl)
theorem dX1_init_43 : decode cX1_init 43 = .ok (.iconst 3, 1) := dk_6 (dk_at dksX1_init_1 20 rfl rfl)
theorem dX1_init_44 : decode cX1_init 44 = .ok (.multianewarray 23 2, 4) := by decide +kernel
theorem dX1_init_48 : decode cX1_init 48 = .ok (.putfield 25, 3) := dk_181 0 25 (dk_at dksX1_init_2 4 rfl rfl)
theorem dX1_init_51 : decode cX1_init 51 = .ok (.aload_n 0, 1) := dk_42 (dk_at dksX1_init_2 7 rfl rfl)
theorem dX1_init_52 : decode cX1_init 52 = .ok (.new 28, 3) := dk_187 0 28 (dk_at dksX1_init_2 8 rfl rfl)
theorem dX1_init_55 : decode cX1_init 55 = .ok (.dup, 1) := dk_89 (dk_at dksX1_init_2 11 rfl rfl)
theorem dX1_init_56 : decode cX1_init 56 = .ok (.invokespecial 30, 3) := dk_183 0 30 (dk_at dksX1_init_2 12 rfl rfl)
theorem dX1_init_59 : decode cX1_init 59 = .ok (.putfield 31, 3) := dk_181 0 31 (dk_at dksX1_init_2 15 rfl rfl)
theorem dX1_init_62 : decode cX1_init 62 = .ok (.aload_n 0, 1) := dk_42 (dk_at dksX1_init_2 18 rfl rfl)
theorem dX1_init_63 : decode cX1_init 63 = .ok (.new 28, 3) := dk_187 0 28 (dk_at dksX1_init_2 19 rfl rfl)
theorem dX1_init_66 : decode cX1_init 66 = .ok (.dup, 1) := dk_89 (dk_at dksX1_init_2 22 rfl rfl)
theorem dX1_init_67 : decode cX1_init 67 = .ok (.invokespecial 30, 3) := dk_183 0 30 (dk_at dksX1_init_3 0 rfl rfl)
theorem dX1_init_70 : decode cX1_init 70 = .ok (.putfield 35, 3) := dk_181 0 35 (dk_at dksX1_init_3 3 rfl rfl)
theorem dX1_init_73 : decode cX1_init 73 = .ok (.aload_n 0, 1) := dk_42 (dk_at dksX1_init_3 6 rfl rfl)
theorem dX1_init_74 : decode cX1_init 74 = .ok (.bipush 11, 2) := dk_16 11 (dk_at dksX1_init_3 7 rfl rfl)
theorem dX1_init_76 : decode cX1_init 76 = .ok (.newarray .int, 2) := dk_188_10 (dk_at dksX1_init_3 9 rfl rfl)
theorem dX1_init_78 : decode cX1_init 78 = .ok (.putfield 38, 3) := dk_181 0 38 (dk_at dksX1_init_3 11 rfl rfl)
theorem dX1_init_81 : decode cX1_init 81 = .ok (.iconst 0, 1) := dk_3 (dk_at dksX1_init_3 14 rfl rfl)
theorem dX1_init_82 : decode cX1_init 82 = .ok (.istore_n 1, 1) := dk_60 (dk_at dksX1_init_3 15 rfl rfl)
theorem dX1_init_83 : decode cX1_init 83 = .ok (.iload_n 1, 1) := dk_27 (dk_at dksX1_init_3 16 rfl rfl)
theorem dX1_init_84 : decode cX1_init 84 = .ok (.iconst 3, 1) := dk_6 (dk_at dksX1_init_3 17 rfl rfl)
theorem dX1_init_85 : decode cX1_init 85 = .ok (.if_icmp .ge 71, 3) := dk_162 0 71 (dk_at dksX1_init_3 18 rfl rfl)
theorem dX1_init_88 : decode cX1_init 88 = .ok (.aload_n 0, 1) := dk_42 (dk_at dksX1_init_3 21 rfl rfl)
theorem dX1_init_89 : decode cX1_init 89 = .ok (.getfield 19, 3) := dk_180 0 19 (dk_at dksX1_init_4 0 rfl rfl)
theorem dX1_init_92 : decode cX1_init 92 = .ok (.iload_n 1, 1) := dk_27 (dk_at dksX1_init_4 3 rfl rfl)
theorem dX1_init_93 : decode cX1_init 93 = .ok (.new 17, 3) := dk_187 0 17 (dk_at dksX1_init_4 4 rfl rfl)
theorem dX1_init_96 : decode cX1_init 96 = .ok (.dup, 1) := dk_89 (dk_at dksX1_init_4 7 rfl rfl)
theorem dX1_init_97 : decode cX1_init 97 = .ok (.invokespecial 41, 3) := dk_183 0 41 (dk_at dksX1_init_4 8 rfl rfl)
theorem dX1_init_100 : decode cX1_init 100 = .ok (.aastore, 1) := dk_83 (dk_at dksX1_init_4 11 rfl rfl)
theorem dX1_init_101 : decode cX1_init 101 = .ok (.aload_n 0, 1) := dk_42 (dk_at dksX1_init_4 12 rfl rfl)
theorem dX1_init_102 : decode cX1_init 102 = .ok (.getfield 35, 3) := dk_180 0 35 (dk_at dksX1_init_4 13 rfl rfl)
theorem dX1_init_105 : decode cX1_init 105 = .ok (.new 28, 3) := dk_187 0 28 (dk_at dksX1_init_4 16 rfl rfl)
theorem dX1_init_108 : decode cX1_init 108 = .ok (.dup, 1) := dk_89 (dk_at dksX1_init_4 19 rfl rfl)
theorem dX1_init_109 : decode cX1_init 109 = .ok (.invokespecial 30, 3) := dk_183 0 30 (dk_at dksX1_init_4 20 rfl rfl)
theorem dX1_init_112 : decode cX1_init 112 = .ok (.invokevirtual 42, 3) := dk_182 0 42 (dk_at dksX1_init_5 0 rfl rfl)
theorem dX1_init_115 : decode cX1_init 115 = .ok (.pop, 1) := dk_87 (dk_at dksX1_init_5 3 rfl rfl)
theorem dX1_init_116 : decode cX1_init 116 = .ok (.iconst 0, 1) := dk_3 (dk_at dksX1_init_5 4 rfl rfl)
theorem dX1_init_117 : decode cX1_init 117 = .ok (.istore_n 2, 1) := dk_61 (dk_at dksX1_init_5 5 rfl rfl)
theorem dX1_init_118 : decode cX1_init 118 = .ok (.iload_n 2, 1) := dk_28 (dk_at dksX1_init_5 6 rfl rfl)
theorem dX1_init_119 : decode cX1_init 119 = .ok (.iconst 3, 1) := dk_6 (dk_at dksX1_init_5 7 rfl rfl)
theorem dX1_init_120 : decode cX1_init 120 = .ok (.if_icmp .ge 30, 3) := dk_162 0 30 (dk_at dksX1_init_5 8 rfl rfl)
theorem dX1_init_123 : decode cX1_init 123 = .ok (.aload_n 0, 1) := dk_42 (dk_at dksX1_init_5 11 rfl rfl)
theorem dX1_init_124 : decode cX1_init 124 = .ok (.getfield 25, 3) := dk_180 0 25 (dk_at dksX1_init_5 12 rfl rfl)
theorem dX1_init_127 : decode cX1_init 127 = .ok (.iload_n 1, 1) := dk_27 (dk_at dksX1_init_5 15 rfl rfl)
theorem dX1_init_128 : decode cX1_init 128 = .ok (.aaload, 1) := dk_50 (dk_at dksX1_init_5 16 rfl rfl)
theorem dX1_init_129 : decode cX1_init 129 = .ok (.iload_n 2, 1) := dk_28 (dk_at dksX1_init_5 17 rfl rfl)
theorem dX1_init_130 : decode cX1_init 130 = .ok (.new 46, 3) := dk_187 0 46 (dk_at dksX1_init_5 18 rfl rfl)
theorem dX1_init_133 : decode cX1_init 133 = .ok (.dup, 1) := dk_89 (dk_at dksX1_init_5 21 rfl rfl)
theorem dX1_init_134 : decode cX1_init 134 = .ok (.aload_n 0, 1) := dk_42 (dk_at dksX1_init_5 22 rfl rfl)
theorem dX1_init_135 : decode cX1_init 135 = .ok (.getfield 7, 3) := dk_180 0 7 (dk_at dksX1_init_6 0 rfl rfl)
theorem dX1_init_138 : decode cX1_init 138 = .ok (.iload_n 2, 1) := dk_28 (dk_at dksX1_init_6 3 rfl rfl)
theorem dX1_init_139 : decode cX1_init 139 = .ok (.iaload, 1) := dk_46 (dk_at dksX1_init_6 4 rfl rfl)
theorem dX1_init_140 : decode cX1_init 140 = .ok (.invokespecial 48, 3) := dk_183 0 48 (dk_at dksX1_init_6 5 rfl rfl)
theorem dX1_init_143 : decode cX1_init 143 = .ok (.aastore, 1) := dk_83 (dk_at dksX1_init_6 8 rfl rfl)
theorem dX1_init_144 : decode cX1_init 144 = .ok (.iinc 2 1, 3) := dk_132 2 1 (dk_at dksX1_init_6 9 rfl rfl)
theorem dX1_init_147 : decode cX1_init 147 = .ok (.goto (-29), 3) := dk_167 255 227 (dk_at dksX1_init_6 12 rfl rfl)
theorem dX1_init_150 : decode cX1_init 150 = .ok (.iinc 1 1, 3) := dk_132 1 1 (dk_at dksX1_init_6 15 rfl rfl)
theorem dX1_init_153 : decode cX1_init 153 = .ok (.goto (-70), 3) := dk_167 255 186 (dk_at dksX1_init_6 18 rfl rfl)
theorem dX1_init_156 : decode cX1_init 156 = .ok (.return_, 1) := dk_177 (dk_at dksX1_init_6 21 rfl rfl)
abbrev cX1_now : ByteArray := prog_1_method_16_code
def yX1_now : MethodName := ⟨RX1, "now", "()I"⟩
theorem dX1_now_0 : decode cX1_now 0 = .ok (.aload_n 0, 1) := by decide +kernel
theorem dX1_now_1 : decode cX1_now 1 = .ok (.getfield 58, 3) := by decide +kernel
theorem dX1_now_4 : decode cX1_now 4 = .ok (.ireturn, 1) := by decide +kernel
abbrev cX1_letters : ByteArray := prog_1_method_17_code
def yX1_letters : MethodName := ⟨RX1, "letters", "()I"⟩
def dkwX1_letters_0 : List UInt8 := [42, 180, 0, 31, 182, 0, 174, 172]
abbrev dktX1_letters_0 : List UInt8 := dkwX1_letters_0 ++ []
theorem dksX1_letters_0 : cX1_letters.data.toList.drop 0 = dktX1_letters_0 := by decide +kernel
theorem dX1_letters_0 : decode cX1_letters 0 = .ok (.aload_n 0, 1) := dk_42 (dk_at dksX1_letters_0 0 rfl rfl)
theorem dX1_letters_1 : decode cX1_letters 1 = .ok (.getfield 31, 3) := dk_180 0 31 (dk_at dksX1_letters_0 1 rfl rfl)
theorem dX1_letters_4 : decode cX1_letters 4 = .ok (.invokevirtual 174, 3) := dk_182 0 174 (dk_at dksX1_letters_0 4 rfl rfl)
theorem dX1_letters_7 : decode cX1_letters 7 = .ok (.ireturn, 1) := dk_172 (dk_at dksX1_letters_0 7 rfl rfl)
abbrev cX1_share : ByteArray := prog_1_method_35_code
def yX1_share : MethodName := ⟨RX1, "share", "()F"⟩
def dkwX1_share_1 : List UInt8 := [180, 0, 171, 134, 110, 174]
abbrev dktX1_share_1 : List UInt8 := dkwX1_share_1 ++ []
def dkwX1_share_0 : List UInt8 := [42, 180, 0, 38, 16, 8, 46, 60, 42, 180, 0, 171, 154, 0, 7, 11, 167, 0, 11, 27, 134, 42]
abbrev dktX1_share_0 : List UInt8 := dkwX1_share_0 ++ dktX1_share_1
theorem dksX1_share_0 : cX1_share.data.toList.drop 0 = dktX1_share_0 := by decide +kernel
theorem dksX1_share_1 : cX1_share.data.toList.drop 22 = dktX1_share_1 := dk_seg dksX1_share_0 22 rfl rfl
theorem dX1_share_0 : decode cX1_share 0 = .ok (.aload_n 0, 1) := dk_42 (dk_at dksX1_share_0 0 rfl rfl)
theorem dX1_share_1 : decode cX1_share 1 = .ok (.getfield 38, 3) := dk_180 0 38 (dk_at dksX1_share_0 1 rfl rfl)
theorem dX1_share_4 : decode cX1_share 4 = .ok (.bipush 8, 2) := dk_16 8 (dk_at dksX1_share_0 4 rfl rfl)
theorem dX1_share_6 : decode cX1_share 6 = .ok (.iaload, 1) := dk_46 (dk_at dksX1_share_0 6 rfl rfl)
theorem dX1_share_7 : decode cX1_share 7 = .ok (.istore_n 1, 1) := dk_60 (dk_at dksX1_share_0 7 rfl rfl)
theorem dX1_share_8 : decode cX1_share 8 = .ok (.aload_n 0, 1) := dk_42 (dk_at dksX1_share_0 8 rfl rfl)
theorem dX1_share_9 : decode cX1_share 9 = .ok (.getfield 171, 3) := dk_180 0 171 (dk_at dksX1_share_0 9 rfl rfl)
theorem dX1_share_12 : decode cX1_share 12 = .ok (.ifCond .ne 7, 3) := dk_154 0 7 (dk_at dksX1_share_0 12 rfl rfl)
theorem dX1_share_15 : decode cX1_share 15 = .ok (.fconst 0, 1) := dk_11 (dk_at dksX1_share_0 15 rfl rfl)
theorem dX1_share_16 : decode cX1_share 16 = .ok (.goto 11, 3) := dk_167 0 11 (dk_at dksX1_share_0 16 rfl rfl)
theorem dX1_share_19 : decode cX1_share 19 = .ok (.iload_n 1, 1) := dk_27 (dk_at dksX1_share_0 19 rfl rfl)
theorem dX1_share_20 : decode cX1_share 20 = .ok (.i2f, 1) := dk_134 (dk_at dksX1_share_0 20 rfl rfl)
theorem dX1_share_21 : decode cX1_share 21 = .ok (.aload_n 0, 1) := dk_42 (dk_at dksX1_share_0 21 rfl rfl)
theorem dX1_share_22 : decode cX1_share 22 = .ok (.getfield 171, 3) := dk_180 0 171 (dk_at dksX1_share_1 0 rfl rfl)
theorem dX1_share_25 : decode cX1_share 25 = .ok (.i2f, 1) := dk_134 (dk_at dksX1_share_1 3 rfl rfl)
theorem dX1_share_26 : decode cX1_share 26 = .ok (.fdiv, 1) := dk_110 (dk_at dksX1_share_1 4 rfl rfl)
theorem dX1_share_27 : decode cX1_share 27 = .ok (.freturn, 1) := dk_174 (dk_at dksX1_share_1 5 rfl rfl)
abbrev cX1_meanAge : ByteArray := prog_1_method_36_code
def yX1_meanAge : MethodName := ⟨RX1, "meanAge", "()D"⟩
def dkwX1_meanAge_3 : List UInt8 := [167, 255, 200, 132, 4, 1, 167, 255, 185, 29, 154, 0, 7, 14, 167, 0, 8, 31, 138, 29, 135, 111, 175]
abbrev dktX1_meanAge_3 : List UInt8 := dkwX1_meanAge_3 ++ []
def dkwX1_meanAge_2 : List UInt8 := [180, 0, 25, 21, 4, 50, 21, 5, 50, 180, 0, 104, 182, 0, 122, 133, 97, 64, 132, 3, 1, 132, 5, 1]
abbrev dktX1_meanAge_2 : List UInt8 := dkwX1_meanAge_2 ++ dktX1_meanAge_3
def dkwX1_meanAge_1 : List UInt8 := [21, 4, 159, 0, 43, 42, 180, 0, 25, 21, 4, 50, 21, 5, 50, 180, 0, 104, 198, 0, 27, 31, 42, 42]
abbrev dktX1_meanAge_1 : List UInt8 := dkwX1_meanAge_1 ++ dktX1_meanAge_2
def dkwX1_meanAge_0 : List UInt8 := [9, 64, 3, 62, 3, 54, 4, 21, 4, 6, 162, 0, 71, 3, 54, 5, 21, 5, 6, 162, 0, 56, 21, 5]
abbrev dktX1_meanAge_0 : List UInt8 := dkwX1_meanAge_0 ++ dktX1_meanAge_1
theorem dksX1_meanAge_0 : cX1_meanAge.data.toList.drop 0 = dktX1_meanAge_0 := by decide +kernel
theorem dksX1_meanAge_1 : cX1_meanAge.data.toList.drop 24 = dktX1_meanAge_1 := dk_seg dksX1_meanAge_0 24 rfl rfl
theorem dksX1_meanAge_2 : cX1_meanAge.data.toList.drop 48 = dktX1_meanAge_2 := dk_seg dksX1_meanAge_1 24 rfl rfl
theorem dksX1_meanAge_3 : cX1_meanAge.data.toList.drop 72 = dktX1_meanAge_3 := dk_seg dksX1_meanAge_2 24 rfl rfl
theorem dX1_meanAge_0 : decode cX1_meanAge 0 = .ok (.lconst 0, 1) := dk_9 (dk_at dksX1_meanAge_0 0 rfl rfl)
theorem dX1_meanAge_1 : decode cX1_meanAge 1 = .ok (.lstore_n 1, 1) := dk_64 (dk_at dksX1_meanAge_0 1 rfl rfl)
theorem dX1_meanAge_2 : decode cX1_meanAge 2 = .ok (.iconst 0, 1) := dk_3 (dk_at dksX1_meanAge_0 2 rfl rfl)
theorem dX1_meanAge_3 : decode cX1_meanAge 3 = .ok (.istore_n 3, 1) := dk_62 (dk_at dksX1_meanAge_0 3 rfl rfl)
theorem dX1_meanAge_4 : decode cX1_meanAge 4 = .ok (.iconst 0, 1) := dk_3 (dk_at dksX1_meanAge_0 4 rfl rfl)
theorem dX1_meanAge_5 : decode cX1_meanAge 5 = .ok (.istore 4, 2) := dk_54 4 (dk_at dksX1_meanAge_0 5 rfl rfl)
theorem dX1_meanAge_7 : decode cX1_meanAge 7 = .ok (.iload 4, 2) := dk_21 4 (dk_at dksX1_meanAge_0 7 rfl rfl)
theorem dX1_meanAge_9 : decode cX1_meanAge 9 = .ok (.iconst 3, 1) := dk_6 (dk_at dksX1_meanAge_0 9 rfl rfl)
theorem dX1_meanAge_10 : decode cX1_meanAge 10 = .ok (.if_icmp .ge 71, 3) := dk_162 0 71 (dk_at dksX1_meanAge_0 10 rfl rfl)
theorem dX1_meanAge_13 : decode cX1_meanAge 13 = .ok (.iconst 0, 1) := dk_3 (dk_at dksX1_meanAge_0 13 rfl rfl)
theorem dX1_meanAge_14 : decode cX1_meanAge 14 = .ok (.istore 5, 2) := dk_54 5 (dk_at dksX1_meanAge_0 14 rfl rfl)
theorem dX1_meanAge_16 : decode cX1_meanAge 16 = .ok (.iload 5, 2) := dk_21 5 (dk_at dksX1_meanAge_0 16 rfl rfl)
theorem dX1_meanAge_18 : decode cX1_meanAge 18 = .ok (.iconst 3, 1) := dk_6 (dk_at dksX1_meanAge_0 18 rfl rfl)
theorem dX1_meanAge_19 : decode cX1_meanAge 19 = .ok (.if_icmp .ge 56, 3) := dk_162 0 56 (dk_at dksX1_meanAge_0 19 rfl rfl)
theorem dX1_meanAge_22 : decode cX1_meanAge 22 = .ok (.iload 5, 2) := dk_21 5 (dk_at dksX1_meanAge_0 22 rfl rfl)
theorem dX1_meanAge_24 : decode cX1_meanAge 24 = .ok (.iload 4, 2) := dk_21 4 (dk_at dksX1_meanAge_1 0 rfl rfl)
theorem dX1_meanAge_26 : decode cX1_meanAge 26 = .ok (.if_icmp .eq 43, 3) := dk_159 0 43 (dk_at dksX1_meanAge_1 2 rfl rfl)
theorem dX1_meanAge_29 : decode cX1_meanAge 29 = .ok (.aload_n 0, 1) := dk_42 (dk_at dksX1_meanAge_1 5 rfl rfl)
theorem dX1_meanAge_30 : decode cX1_meanAge 30 = .ok (.getfield 25, 3) := dk_180 0 25 (dk_at dksX1_meanAge_1 6 rfl rfl)
theorem dX1_meanAge_33 : decode cX1_meanAge 33 = .ok (.iload 4, 2) := dk_21 4 (dk_at dksX1_meanAge_1 9 rfl rfl)
theorem dX1_meanAge_35 : decode cX1_meanAge 35 = .ok (.aaload, 1) := dk_50 (dk_at dksX1_meanAge_1 11 rfl rfl)
theorem dX1_meanAge_36 : decode cX1_meanAge 36 = .ok (.iload 5, 2) := dk_21 5 (dk_at dksX1_meanAge_1 12 rfl rfl)
theorem dX1_meanAge_38 : decode cX1_meanAge 38 = .ok (.aaload, 1) := dk_50 (dk_at dksX1_meanAge_1 14 rfl rfl)
theorem dX1_meanAge_39 : decode cX1_meanAge 39 = .ok (.getfield 104, 3) := dk_180 0 104 (dk_at dksX1_meanAge_1 15 rfl rfl)
theorem dX1_meanAge_42 : decode cX1_meanAge 42 = .ok (.ifnull 27, 3) := dk_198 0 27 (dk_at dksX1_meanAge_1 18 rfl rfl)
theorem dX1_meanAge_45 : decode cX1_meanAge 45 = .ok (.lload_n 1, 1) := dk_31 (dk_at dksX1_meanAge_1 21 rfl rfl)
theorem dX1_meanAge_46 : decode cX1_meanAge 46 = .ok (.aload_n 0, 1) := dk_42 (dk_at dksX1_meanAge_1 22 rfl rfl)
theorem dX1_meanAge_47 : decode cX1_meanAge 47 = .ok (.aload_n 0, 1) := dk_42 (dk_at dksX1_meanAge_1 23 rfl rfl)
theorem dX1_meanAge_48 : decode cX1_meanAge 48 = .ok (.getfield 25, 3) := dk_180 0 25 (dk_at dksX1_meanAge_2 0 rfl rfl)
theorem dX1_meanAge_51 : decode cX1_meanAge 51 = .ok (.iload 4, 2) := dk_21 4 (dk_at dksX1_meanAge_2 3 rfl rfl)
theorem dX1_meanAge_53 : decode cX1_meanAge 53 = .ok (.aaload, 1) := dk_50 (dk_at dksX1_meanAge_2 5 rfl rfl)
theorem dX1_meanAge_54 : decode cX1_meanAge 54 = .ok (.iload 5, 2) := dk_21 5 (dk_at dksX1_meanAge_2 6 rfl rfl)
theorem dX1_meanAge_56 : decode cX1_meanAge 56 = .ok (.aaload, 1) := dk_50 (dk_at dksX1_meanAge_2 8 rfl rfl)
theorem dX1_meanAge_57 : decode cX1_meanAge 57 = .ok (.getfield 104, 3) := dk_180 0 104 (dk_at dksX1_meanAge_2 9 rfl rfl)
theorem dX1_meanAge_60 : decode cX1_meanAge 60 = .ok (.invokevirtual 122, 3) := dk_182 0 122 (dk_at dksX1_meanAge_2 12 rfl rfl)
theorem dX1_meanAge_63 : decode cX1_meanAge 63 = .ok (.i2l, 1) := dk_133 (dk_at dksX1_meanAge_2 15 rfl rfl)
theorem dX1_meanAge_64 : decode cX1_meanAge 64 = .ok (.ladd, 1) := dk_97 (dk_at dksX1_meanAge_2 16 rfl rfl)
theorem dX1_meanAge_65 : decode cX1_meanAge 65 = .ok (.lstore_n 1, 1) := dk_64 (dk_at dksX1_meanAge_2 17 rfl rfl)
theorem dX1_meanAge_66 : decode cX1_meanAge 66 = .ok (.iinc 3 1, 3) := dk_132 3 1 (dk_at dksX1_meanAge_2 18 rfl rfl)
theorem dX1_meanAge_69 : decode cX1_meanAge 69 = .ok (.iinc 5 1, 3) := dk_132 5 1 (dk_at dksX1_meanAge_2 21 rfl rfl)
theorem dX1_meanAge_72 : decode cX1_meanAge 72 = .ok (.goto (-56), 3) := dk_167 255 200 (dk_at dksX1_meanAge_3 0 rfl rfl)
theorem dX1_meanAge_75 : decode cX1_meanAge 75 = .ok (.iinc 4 1, 3) := dk_132 4 1 (dk_at dksX1_meanAge_3 3 rfl rfl)
theorem dX1_meanAge_78 : decode cX1_meanAge 78 = .ok (.goto (-71), 3) := dk_167 255 185 (dk_at dksX1_meanAge_3 6 rfl rfl)
theorem dX1_meanAge_81 : decode cX1_meanAge 81 = .ok (.iload_n 3, 1) := dk_29 (dk_at dksX1_meanAge_3 9 rfl rfl)
theorem dX1_meanAge_82 : decode cX1_meanAge 82 = .ok (.ifCond .ne 7, 3) := dk_154 0 7 (dk_at dksX1_meanAge_3 10 rfl rfl)
theorem dX1_meanAge_85 : decode cX1_meanAge 85 = .ok (.dconst 0, 1) := dk_14 (dk_at dksX1_meanAge_3 13 rfl rfl)
theorem dX1_meanAge_86 : decode cX1_meanAge 86 = .ok (.goto 8, 3) := dk_167 0 8 (dk_at dksX1_meanAge_3 14 rfl rfl)
theorem dX1_meanAge_89 : decode cX1_meanAge 89 = .ok (.lload_n 1, 1) := dk_31 (dk_at dksX1_meanAge_3 17 rfl rfl)
theorem dX1_meanAge_90 : decode cX1_meanAge 90 = .ok (.l2d, 1) := dk_138 (dk_at dksX1_meanAge_3 18 rfl rfl)
theorem dX1_meanAge_91 : decode cX1_meanAge 91 = .ok (.iload_n 3, 1) := dk_29 (dk_at dksX1_meanAge_3 19 rfl rfl)
theorem dX1_meanAge_92 : decode cX1_meanAge 92 = .ok (.i2d, 1) := dk_135 (dk_at dksX1_meanAge_3 20 rfl rfl)
theorem dX1_meanAge_93 : decode cX1_meanAge 93 = .ok (.ddiv, 1) := dk_111 (dk_at dksX1_meanAge_3 21 rfl rfl)
theorem dX1_meanAge_94 : decode cX1_meanAge 94 = .ok (.dreturn, 1) := dk_175 (dk_at dksX1_meanAge_3 22 rfl rfl)
abbrev cX1_age : ByteArray := prog_1_method_50_code
def yX1_age : MethodName := ⟨RX1, "age", "(LBurrowline$Session;)I"⟩
def dkwX1_age_0 : List UInt8 := [42, 180, 0, 58, 43, 180, 1, 135, 100, 172]
abbrev dktX1_age_0 : List UInt8 := dkwX1_age_0 ++ []
theorem dksX1_age_0 : cX1_age.data.toList.drop 0 = dktX1_age_0 := by decide +kernel
theorem dX1_age_0 : decode cX1_age 0 = .ok (.aload_n 0, 1) := dk_42 (dk_at dksX1_age_0 0 rfl rfl)
theorem dX1_age_1 : decode cX1_age 1 = .ok (.getfield 58, 3) := dk_180 0 58 (dk_at dksX1_age_0 1 rfl rfl)
theorem dX1_age_4 : decode cX1_age 4 = .ok (.aload_n 1, 1) := dk_43 (dk_at dksX1_age_0 4 rfl rfl)
theorem dX1_age_5 : decode cX1_age 5 = .ok (.getfield 391, 3) := dk_180 1 135 (dk_at dksX1_age_0 5 rfl rfl)
theorem dX1_age_8 : decode cX1_age 8 = .ok (.isub, 1) := dk_100 (dk_at dksX1_age_0 8 rfl rfl)
theorem dX1_age_9 : decode cX1_age 9 = .ok (.ireturn, 1) := dk_172 (dk_at dksX1_age_0 9 rfl rfl)
abbrev cX1_isSound : ByteArray := prog_1_method_37_code
def yX1_isSound : MethodName := ⟨RX1, "isSound", "()Z"⟩
def dkwX1_isSound_12 : List UInt8 := [172, 167, 255, 221, 4, 172]
abbrev dktX1_isSound_12 : List UInt8 := dkwX1_isSound_12 ++ []
def dkwX1_isSound_11 : List UInt8 := [185, 1, 37, 1, 0, 192, 0, 162, 78, 45, 182, 0, 214, 153, 0, 12, 45, 182, 1, 44, 153, 0, 5, 3]
abbrev dktX1_isSound_11 : List UInt8 := dkwX1_isSound_11 ++ dktX1_isSound_12
def dkwX1_isSound_10 : List UInt8 := [167, 255, 112, 42, 180, 0, 31, 182, 1, 28, 77, 44, 185, 1, 32, 1, 0, 153, 0, 32, 44]
abbrev dktX1_isSound_10 : List UInt8 := dkwX1_isSound_10 ++ dktX1_isSound_11
def dkwX1_isSound_9 : List UInt8 := [180, 0, 238, 160, 0, 15, 45, 180, 0, 116, 25, 5, 180, 0, 116, 160, 0, 5, 3, 172, 167, 255, 149]
abbrev dktX1_isSound_9 : List UInt8 := dkwX1_isSound_9 ++ dktX1_isSound_10
def dkwX1_isSound_8 : List UInt8 := [180, 0, 228, 160, 0, 41, 45, 180, 0, 238, 25, 5, 180, 0, 241, 160, 0, 27, 45, 180, 0, 241, 25, 5]
abbrev dktX1_isSound_8 : List UInt8 := dkwX1_isSound_8 ++ dktX1_isSound_9
def dkwX1_isSound_7 : List UInt8 := [160, 0, 5, 3, 172, 45, 180, 0, 229, 25, 5, 180, 0, 228, 160, 0, 53, 25, 5, 180, 0, 229, 45]
abbrev dktX1_isSound_7 : List UInt8 := dkwX1_isSound_7 ++ dktX1_isSound_8
def dkwX1_isSound_6 : List UInt8 := [192, 0, 117, 58, 5, 25, 5, 45, 166, 0, 6, 167, 255, 228, 25, 5, 180, 0, 228, 45, 180, 0, 228]
abbrev dktX1_isSound_6 : List UInt8 := dkwX1_isSound_6 ++ dktX1_isSound_7
def dkwX1_isSound_5 : List UInt8 := [182, 1, 28, 58, 4, 25, 4, 185, 1, 32, 1, 0, 153, 0, 103, 25, 4, 185, 1, 37, 1, 0]
abbrev dktX1_isSound_5 : List UInt8 := dkwX1_isSound_5 ++ dktX1_isSound_6
def dkwX1_isSound_4 : List UInt8 := [153, 0, 141, 44, 185, 1, 37, 1, 0, 192, 0, 117, 78, 45, 182, 1, 41, 154, 0, 5, 3, 172, 43]
abbrev dktX1_isSound_4 : List UInt8 := dkwX1_isSound_4 ++ dktX1_isSound_5
def dkwX1_isSound_3 : List UInt8 := [132, 3, 1, 167, 255, 201, 132, 2, 1, 167, 255, 188, 43, 182, 1, 28, 77, 44, 185, 1, 32, 1, 0]
abbrev dktX1_isSound_3 : List UInt8 := dkwX1_isSound_3 ++ dktX1_isSound_4
def dkwX1_isSound_2 : List UInt8 := [182, 0, 225, 58, 5, 25, 5, 198, 0, 10, 43, 25, 5, 182, 0, 42, 87, 132, 4, 1, 167, 255, 215]
abbrev dktX1_isSound_2 : List UInt8 := dkwX1_isSound_2 ++ dktX1_isSound_3
def dkwX1_isSound_1 : List UInt8 := [54, 4, 29, 28, 159, 0, 42, 21, 4, 6, 162, 0, 36, 42, 180, 0, 25, 28, 50, 29, 50, 21, 4]
abbrev dktX1_isSound_1 : List UInt8 := dkwX1_isSound_1 ++ dktX1_isSound_2
def dkwX1_isSound_0 : List UInt8 := [187, 0, 28, 89, 183, 0, 30, 76, 3, 61, 28, 6, 162, 0, 69, 3, 62, 29, 6, 162, 0, 56, 3]
abbrev dktX1_isSound_0 : List UInt8 := dkwX1_isSound_0 ++ dktX1_isSound_1
theorem dksX1_isSound_0 : cX1_isSound.data.toList.drop 0 = dktX1_isSound_0 := by decide +kernel
theorem dksX1_isSound_1 : cX1_isSound.data.toList.drop 23 = dktX1_isSound_1 := dk_seg dksX1_isSound_0 23 rfl rfl
theorem dksX1_isSound_2 : cX1_isSound.data.toList.drop 46 = dktX1_isSound_2 := dk_seg dksX1_isSound_1 23 rfl rfl
theorem dksX1_isSound_3 : cX1_isSound.data.toList.drop 69 = dktX1_isSound_3 := dk_seg dksX1_isSound_2 23 rfl rfl
theorem dksX1_isSound_4 : cX1_isSound.data.toList.drop 92 = dktX1_isSound_4 := dk_seg dksX1_isSound_3 23 rfl rfl
theorem dksX1_isSound_5 : cX1_isSound.data.toList.drop 115 = dktX1_isSound_5 := dk_seg dksX1_isSound_4 23 rfl rfl
theorem dksX1_isSound_6 : cX1_isSound.data.toList.drop 137 = dktX1_isSound_6 := dk_seg dksX1_isSound_5 22 rfl rfl
theorem dksX1_isSound_7 : cX1_isSound.data.toList.drop 160 = dktX1_isSound_7 := dk_seg dksX1_isSound_6 23 rfl rfl
theorem dksX1_isSound_8 : cX1_isSound.data.toList.drop 183 = dktX1_isSound_8 := dk_seg dksX1_isSound_7 23 rfl rfl
theorem dksX1_isSound_9 : cX1_isSound.data.toList.drop 207 = dktX1_isSound_9 := dk_seg dksX1_isSound_8 24 rfl rfl
theorem dksX1_isSound_10 : cX1_isSound.data.toList.drop 230 = dktX1_isSound_10 := dk_seg dksX1_isSound_9 23 rfl rfl
theorem dksX1_isSound_11 : cX1_isSound.data.toList.drop 251 = dktX1_isSound_11 := dk_seg dksX1_isSound_10 21 rfl rfl
theorem dksX1_isSound_12 : cX1_isSound.data.toList.drop 275 = dktX1_isSound_12 := dk_seg dksX1_isSound_11 24 rfl rfl
theorem dX1_isSound_0 : decode cX1_isSound 0 = .ok (.new 28, 3) := dk_187 0 28 (dk_at dksX1_isSound_0 0 rfl rfl)
theorem dX1_isSound_3 : decode cX1_isSound 3 = .ok (.dup, 1) := dk_89 (dk_at dksX1_isSound_0 3 rfl rfl)
theorem dX1_isSound_4 : decode cX1_isSound 4 = .ok (.invokespecial 30, 3) := dk_183 0 30 (dk_at dksX1_isSound_0 4 rfl rfl)
theorem dX1_isSound_7 : decode cX1_isSound 7 = .ok (.astore_n 1, 1) := dk_76 (dk_at dksX1_isSound_0 7 rfl rfl)
theorem dX1_isSound_8 : decode cX1_isSound 8 = .ok (.iconst 0, 1) := dk_3 (dk_at dksX1_isSound_0 8 rfl rfl)
theorem dX1_isSound_9 : decode cX1_isSound 9 = .ok (.istore_n 2, 1) := dk_61 (dk_at dksX1_isSound_0 9 rfl rfl)
theorem dX1_isSound_10 : decode cX1_isSound 10 = .ok (.iload_n 2, 1) := dk_28 (dk_at dksX1_isSound_0 10 rfl rfl)
theorem dX1_isSound_11 : decode cX1_isSound 11 = .ok (.iconst 3, 1) := dk_6 (dk_at dksX1_isSound_0 11 rfl rfl)
theorem dX1_isSound_12 : decode cX1_isSound 12 = .ok (.if_icmp .ge 69, 3) := dk_162 0 69 (dk_at dksX1_isSound_0 12 rfl rfl)
theorem dX1_isSound_15 : decode cX1_isSound 15 = .ok (.iconst 0, 1) := dk_3 (dk_at dksX1_isSound_0 15 rfl rfl)
theorem dX1_isSound_16 : decode cX1_isSound 16 = .ok (.istore_n 3, 1) := dk_62 (dk_at dksX1_isSound_0 16 rfl rfl)
theorem dX1_isSound_17 : decode cX1_isSound 17 = .ok (.iload_n 3, 1) := dk_29 (dk_at dksX1_isSound_0 17 rfl rfl)
theorem dX1_isSound_18 : decode cX1_isSound 18 = .ok (.iconst 3, 1) := dk_6 (dk_at dksX1_isSound_0 18 rfl rfl)
theorem dX1_isSound_19 : decode cX1_isSound 19 = .ok (.if_icmp .ge 56, 3) := dk_162 0 56 (dk_at dksX1_isSound_0 19 rfl rfl)
theorem dX1_isSound_22 : decode cX1_isSound 22 = .ok (.iconst 0, 1) := dk_3 (dk_at dksX1_isSound_0 22 rfl rfl)
theorem dX1_isSound_23 : decode cX1_isSound 23 = .ok (.istore 4, 2) := dk_54 4 (dk_at dksX1_isSound_1 0 rfl rfl)
theorem dX1_isSound_25 : decode cX1_isSound 25 = .ok (.iload_n 3, 1) := dk_29 (dk_at dksX1_isSound_1 2 rfl rfl)
theorem dX1_isSound_26 : decode cX1_isSound 26 = .ok (.iload_n 2, 1) := dk_28 (dk_at dksX1_isSound_1 3 rfl rfl)
theorem dX1_isSound_27 : decode cX1_isSound 27 = .ok (.if_icmp .eq 42, 3) := dk_159 0 42 (dk_at dksX1_isSound_1 4 rfl rfl)
theorem dX1_isSound_30 : decode cX1_isSound 30 = .ok (.iload 4, 2) := dk_21 4 (dk_at dksX1_isSound_1 7 rfl rfl)
theorem dX1_isSound_32 : decode cX1_isSound 32 = .ok (.iconst 3, 1) := dk_6 (dk_at dksX1_isSound_1 9 rfl rfl)
theorem dX1_isSound_33 : decode cX1_isSound 33 = .ok (.if_icmp .ge 36, 3) := dk_162 0 36 (dk_at dksX1_isSound_1 10 rfl rfl)
theorem dX1_isSound_36 : decode cX1_isSound 36 = .ok (.aload_n 0, 1) := dk_42 (dk_at dksX1_isSound_1 13 rfl rfl)
theorem dX1_isSound_37 : decode cX1_isSound 37 = .ok (.getfield 25, 3) := dk_180 0 25 (dk_at dksX1_isSound_1 14 rfl rfl)
theorem dX1_isSound_40 : decode cX1_isSound 40 = .ok (.iload_n 2, 1) := dk_28 (dk_at dksX1_isSound_1 17 rfl rfl)
theorem dX1_isSound_41 : decode cX1_isSound 41 = .ok (.aaload, 1) := dk_50 (dk_at dksX1_isSound_1 18 rfl rfl)
theorem dX1_isSound_42 : decode cX1_isSound 42 = .ok (.iload_n 3, 1) := dk_29 (dk_at dksX1_isSound_1 19 rfl rfl)
theorem dX1_isSound_43 : decode cX1_isSound 43 = .ok (.aaload, 1) := dk_50 (dk_at dksX1_isSound_1 20 rfl rfl)
theorem dX1_isSound_44 : decode cX1_isSound 44 = .ok (.iload 4, 2) := dk_21 4 (dk_at dksX1_isSound_1 21 rfl rfl)
theorem dX1_isSound_46 : decode cX1_isSound 46 = .ok (.invokevirtual 225, 3) := dk_182 0 225 (dk_at dksX1_isSound_2 0 rfl rfl)
theorem dX1_isSound_49 : decode cX1_isSound 49 = .ok (.astore 5, 2) := dk_58 5 (dk_at dksX1_isSound_2 3 rfl rfl)
theorem dX1_isSound_51 : decode cX1_isSound 51 = .ok (.aload 5, 2) := dk_25 5 (dk_at dksX1_isSound_2 5 rfl rfl)
theorem dX1_isSound_53 : decode cX1_isSound 53 = .ok (.ifnull 10, 3) := dk_198 0 10 (dk_at dksX1_isSound_2 7 rfl rfl)
theorem dX1_isSound_56 : decode cX1_isSound 56 = .ok (.aload_n 1, 1) := dk_43 (dk_at dksX1_isSound_2 10 rfl rfl)
theorem dX1_isSound_57 : decode cX1_isSound 57 = .ok (.aload 5, 2) := dk_25 5 (dk_at dksX1_isSound_2 11 rfl rfl)
theorem dX1_isSound_59 : decode cX1_isSound 59 = .ok (.invokevirtual 42, 3) := dk_182 0 42 (dk_at dksX1_isSound_2 13 rfl rfl)
theorem dX1_isSound_62 : decode cX1_isSound 62 = .ok (.pop, 1) := dk_87 (dk_at dksX1_isSound_2 16 rfl rfl)
theorem dX1_isSound_63 : decode cX1_isSound 63 = .ok (.iinc 4 1, 3) := dk_132 4 1 (dk_at dksX1_isSound_2 17 rfl rfl)
theorem dX1_isSound_66 : decode cX1_isSound 66 = .ok (.goto (-41), 3) := dk_167 255 215 (dk_at dksX1_isSound_2 20 rfl rfl)
theorem dX1_isSound_69 : decode cX1_isSound 69 = .ok (.iinc 3 1, 3) := dk_132 3 1 (dk_at dksX1_isSound_3 0 rfl rfl)
theorem dX1_isSound_72 : decode cX1_isSound 72 = .ok (.goto (-55), 3) := dk_167 255 201 (dk_at dksX1_isSound_3 3 rfl rfl)
theorem dX1_isSound_75 : decode cX1_isSound 75 = .ok (.iinc 2 1, 3) := dk_132 2 1 (dk_at dksX1_isSound_3 6 rfl rfl)
theorem dX1_isSound_78 : decode cX1_isSound 78 = .ok (.goto (-68), 3) := dk_167 255 188 (dk_at dksX1_isSound_3 9 rfl rfl)
theorem dX1_isSound_81 : decode cX1_isSound 81 = .ok (.aload_n 1, 1) := dk_43 (dk_at dksX1_isSound_3 12 rfl rfl)
theorem dX1_isSound_82 : decode cX1_isSound 82 = .ok (.invokevirtual 284, 3) := dk_182 1 28 (dk_at dksX1_isSound_3 13 rfl rfl)
theorem dX1_isSound_85 : decode cX1_isSound 85 = .ok (.astore_n 2, 1) := dk_77 (dk_at dksX1_isSound_3 16 rfl rfl)
theorem dX1_isSound_86 : decode cX1_isSound 86 = .ok (.aload_n 2, 1) := dk_44 (dk_at dksX1_isSound_3 17 rfl rfl)
theorem dX1_isSound_87 : decode cX1_isSound 87 = .ok (.invokeinterface 288 1, 5) := by decide +kernel
theorem dX1_isSound_92 : decode cX1_isSound 92 = .ok (.ifCond .eq 141, 3) := dk_153 0 141 (dk_at dksX1_isSound_4 0 rfl rfl)
theorem dX1_isSound_95 : decode cX1_isSound 95 = .ok (.aload_n 2, 1) := dk_44 (dk_at dksX1_isSound_4 3 rfl rfl)
theorem dX1_isSound_96 : decode cX1_isSound 96 = .ok (.invokeinterface 293 1, 5) := by decide +kernel
theorem dX1_isSound_101 : decode cX1_isSound 101 = .ok (.checkcast 117, 3) := dk_192 0 117 (dk_at dksX1_isSound_4 9 rfl rfl)
theorem dX1_isSound_104 : decode cX1_isSound 104 = .ok (.astore_n 3, 1) := dk_78 (dk_at dksX1_isSound_4 12 rfl rfl)
theorem dX1_isSound_105 : decode cX1_isSound 105 = .ok (.aload_n 3, 1) := dk_45 (dk_at dksX1_isSound_4 13 rfl rfl)
theorem dX1_isSound_106 : decode cX1_isSound 106 = .ok (.invokevirtual 297, 3) := dk_182 1 41 (dk_at dksX1_isSound_4 14 rfl rfl)
theorem dX1_isSound_109 : decode cX1_isSound 109 = .ok (.ifCond .ne 5, 3) := dk_154 0 5 (dk_at dksX1_isSound_4 17 rfl rfl)
theorem dX1_isSound_112 : decode cX1_isSound 112 = .ok (.iconst 0, 1) := dk_3 (dk_at dksX1_isSound_4 20 rfl rfl)
theorem dX1_isSound_113 : decode cX1_isSound 113 = .ok (.ireturn, 1) := dk_172 (dk_at dksX1_isSound_4 21 rfl rfl)
theorem dX1_isSound_114 : decode cX1_isSound 114 = .ok (.aload_n 1, 1) := dk_43 (dk_at dksX1_isSound_4 22 rfl rfl)
theorem dX1_isSound_115 : decode cX1_isSound 115 = .ok (.invokevirtual 284, 3) := dk_182 1 28 (dk_at dksX1_isSound_5 0 rfl rfl)
theorem dX1_isSound_118 : decode cX1_isSound 118 = .ok (.astore 4, 2) := dk_58 4 (dk_at dksX1_isSound_5 3 rfl rfl)
theorem dX1_isSound_120 : decode cX1_isSound 120 = .ok (.aload 4, 2) := dk_25 4 (dk_at dksX1_isSound_5 5 rfl rfl)
theorem dX1_isSound_122 : decode cX1_isSound 122 = .ok (.invokeinterface 288 1, 5) := by decide +kernel
theorem dX1_isSound_127 : decode cX1_isSound 127 = .ok (.ifCond .eq 103, 3) := dk_153 0 103 (dk_at dksX1_isSound_5 12 rfl rfl)
theorem dX1_isSound_130 : decode cX1_isSound 130 = .ok (.aload 4, 2) := dk_25 4 (dk_at dksX1_isSound_5 15 rfl rfl)
theorem dX1_isSound_132 : decode cX1_isSound 132 = .ok (.invokeinterface 293 1, 5) := by decide +kernel
theorem dX1_isSound_137 : decode cX1_isSound 137 = .ok (.checkcast 117, 3) := dk_192 0 117 (dk_at dksX1_isSound_6 0 rfl rfl)
theorem dX1_isSound_140 : decode cX1_isSound 140 = .ok (.astore 5, 2) := dk_58 5 (dk_at dksX1_isSound_6 3 rfl rfl)
theorem dX1_isSound_142 : decode cX1_isSound 142 = .ok (.aload 5, 2) := dk_25 5 (dk_at dksX1_isSound_6 5 rfl rfl)
theorem dX1_isSound_144 : decode cX1_isSound 144 = .ok (.aload_n 3, 1) := dk_45 (dk_at dksX1_isSound_6 7 rfl rfl)
theorem dX1_isSound_145 : decode cX1_isSound 145 = .ok (.if_acmp .ne 6, 3) := dk_166 0 6 (dk_at dksX1_isSound_6 8 rfl rfl)
theorem dX1_isSound_148 : decode cX1_isSound 148 = .ok (.goto (-28), 3) := dk_167 255 228 (dk_at dksX1_isSound_6 11 rfl rfl)
theorem dX1_isSound_151 : decode cX1_isSound 151 = .ok (.aload 5, 2) := dk_25 5 (dk_at dksX1_isSound_6 14 rfl rfl)
theorem dX1_isSound_153 : decode cX1_isSound 153 = .ok (.getfield 228, 3) := dk_180 0 228 (dk_at dksX1_isSound_6 16 rfl rfl)
theorem dX1_isSound_156 : decode cX1_isSound 156 = .ok (.aload_n 3, 1) := dk_45 (dk_at dksX1_isSound_6 19 rfl rfl)
theorem dX1_isSound_157 : decode cX1_isSound 157 = .ok (.getfield 228, 3) := dk_180 0 228 (dk_at dksX1_isSound_6 20 rfl rfl)
theorem dX1_isSound_160 : decode cX1_isSound 160 = .ok (.if_icmp .ne 5, 3) := dk_160 0 5 (dk_at dksX1_isSound_7 0 rfl rfl)
theorem dX1_isSound_163 : decode cX1_isSound 163 = .ok (.iconst 0, 1) := dk_3 (dk_at dksX1_isSound_7 3 rfl rfl)
theorem dX1_isSound_164 : decode cX1_isSound 164 = .ok (.ireturn, 1) := dk_172 (dk_at dksX1_isSound_7 4 rfl rfl)
theorem dX1_isSound_165 : decode cX1_isSound 165 = .ok (.aload_n 3, 1) := dk_45 (dk_at dksX1_isSound_7 5 rfl rfl)
theorem dX1_isSound_166 : decode cX1_isSound 166 = .ok (.getfield 229, 3) := dk_180 0 229 (dk_at dksX1_isSound_7 6 rfl rfl)
theorem dX1_isSound_169 : decode cX1_isSound 169 = .ok (.aload 5, 2) := dk_25 5 (dk_at dksX1_isSound_7 9 rfl rfl)
theorem dX1_isSound_171 : decode cX1_isSound 171 = .ok (.getfield 228, 3) := dk_180 0 228 (dk_at dksX1_isSound_7 11 rfl rfl)
theorem dX1_isSound_174 : decode cX1_isSound 174 = .ok (.if_icmp .ne 53, 3) := dk_160 0 53 (dk_at dksX1_isSound_7 14 rfl rfl)
theorem dX1_isSound_177 : decode cX1_isSound 177 = .ok (.aload 5, 2) := dk_25 5 (dk_at dksX1_isSound_7 17 rfl rfl)
theorem dX1_isSound_179 : decode cX1_isSound 179 = .ok (.getfield 229, 3) := dk_180 0 229 (dk_at dksX1_isSound_7 19 rfl rfl)
theorem dX1_isSound_182 : decode cX1_isSound 182 = .ok (.aload_n 3, 1) := dk_45 (dk_at dksX1_isSound_7 22 rfl rfl)
theorem dX1_isSound_183 : decode cX1_isSound 183 = .ok (.getfield 228, 3) := dk_180 0 228 (dk_at dksX1_isSound_8 0 rfl rfl)
theorem dX1_isSound_186 : decode cX1_isSound 186 = .ok (.if_icmp .ne 41, 3) := dk_160 0 41 (dk_at dksX1_isSound_8 3 rfl rfl)
theorem dX1_isSound_189 : decode cX1_isSound 189 = .ok (.aload_n 3, 1) := dk_45 (dk_at dksX1_isSound_8 6 rfl rfl)
theorem dX1_isSound_190 : decode cX1_isSound 190 = .ok (.getfield 238, 3) := dk_180 0 238 (dk_at dksX1_isSound_8 7 rfl rfl)
theorem dX1_isSound_193 : decode cX1_isSound 193 = .ok (.aload 5, 2) := dk_25 5 (dk_at dksX1_isSound_8 10 rfl rfl)
theorem dX1_isSound_195 : decode cX1_isSound 195 = .ok (.getfield 241, 3) := dk_180 0 241 (dk_at dksX1_isSound_8 12 rfl rfl)
theorem dX1_isSound_198 : decode cX1_isSound 198 = .ok (.if_icmp .ne 27, 3) := dk_160 0 27 (dk_at dksX1_isSound_8 15 rfl rfl)
theorem dX1_isSound_201 : decode cX1_isSound 201 = .ok (.aload_n 3, 1) := dk_45 (dk_at dksX1_isSound_8 18 rfl rfl)
theorem dX1_isSound_202 : decode cX1_isSound 202 = .ok (.getfield 241, 3) := dk_180 0 241 (dk_at dksX1_isSound_8 19 rfl rfl)
theorem dX1_isSound_205 : decode cX1_isSound 205 = .ok (.aload 5, 2) := dk_25 5 (dk_at dksX1_isSound_8 22 rfl rfl)
theorem dX1_isSound_207 : decode cX1_isSound 207 = .ok (.getfield 238, 3) := dk_180 0 238 (dk_at dksX1_isSound_9 0 rfl rfl)
theorem dX1_isSound_210 : decode cX1_isSound 210 = .ok (.if_icmp .ne 15, 3) := dk_160 0 15 (dk_at dksX1_isSound_9 3 rfl rfl)
theorem dX1_isSound_213 : decode cX1_isSound 213 = .ok (.aload_n 3, 1) := dk_45 (dk_at dksX1_isSound_9 6 rfl rfl)
theorem dX1_isSound_214 : decode cX1_isSound 214 = .ok (.getfield 116, 3) := dk_180 0 116 (dk_at dksX1_isSound_9 7 rfl rfl)
theorem dX1_isSound_217 : decode cX1_isSound 217 = .ok (.aload 5, 2) := dk_25 5 (dk_at dksX1_isSound_9 10 rfl rfl)
theorem dX1_isSound_219 : decode cX1_isSound 219 = .ok (.getfield 116, 3) := dk_180 0 116 (dk_at dksX1_isSound_9 12 rfl rfl)
theorem dX1_isSound_222 : decode cX1_isSound 222 = .ok (.if_icmp .ne 5, 3) := dk_160 0 5 (dk_at dksX1_isSound_9 15 rfl rfl)
theorem dX1_isSound_225 : decode cX1_isSound 225 = .ok (.iconst 0, 1) := dk_3 (dk_at dksX1_isSound_9 18 rfl rfl)
theorem dX1_isSound_226 : decode cX1_isSound 226 = .ok (.ireturn, 1) := dk_172 (dk_at dksX1_isSound_9 19 rfl rfl)
theorem dX1_isSound_227 : decode cX1_isSound 227 = .ok (.goto (-107), 3) := dk_167 255 149 (dk_at dksX1_isSound_9 20 rfl rfl)
theorem dX1_isSound_230 : decode cX1_isSound 230 = .ok (.goto (-144), 3) := dk_167 255 112 (dk_at dksX1_isSound_10 0 rfl rfl)
theorem dX1_isSound_233 : decode cX1_isSound 233 = .ok (.aload_n 0, 1) := dk_42 (dk_at dksX1_isSound_10 3 rfl rfl)
theorem dX1_isSound_234 : decode cX1_isSound 234 = .ok (.getfield 31, 3) := dk_180 0 31 (dk_at dksX1_isSound_10 4 rfl rfl)
theorem dX1_isSound_237 : decode cX1_isSound 237 = .ok (.invokevirtual 284, 3) := dk_182 1 28 (dk_at dksX1_isSound_10 7 rfl rfl)
theorem dX1_isSound_240 : decode cX1_isSound 240 = .ok (.astore_n 2, 1) := dk_77 (dk_at dksX1_isSound_10 10 rfl rfl)
theorem dX1_isSound_241 : decode cX1_isSound 241 = .ok (.aload_n 2, 1) := dk_44 (dk_at dksX1_isSound_10 11 rfl rfl)
theorem dX1_isSound_242 : decode cX1_isSound 242 = .ok (.invokeinterface 288 1, 5) := by decide +kernel
theorem dX1_isSound_247 : decode cX1_isSound 247 = .ok (.ifCond .eq 32, 3) := dk_153 0 32 (dk_at dksX1_isSound_10 17 rfl rfl)
theorem dX1_isSound_250 : decode cX1_isSound 250 = .ok (.aload_n 2, 1) := dk_44 (dk_at dksX1_isSound_10 20 rfl rfl)
theorem dX1_isSound_251 : decode cX1_isSound 251 = .ok (.invokeinterface 293 1, 5) := by decide +kernel
theorem dX1_isSound_256 : decode cX1_isSound 256 = .ok (.checkcast 162, 3) := dk_192 0 162 (dk_at dksX1_isSound_11 5 rfl rfl)
theorem dX1_isSound_259 : decode cX1_isSound 259 = .ok (.astore_n 3, 1) := dk_78 (dk_at dksX1_isSound_11 8 rfl rfl)
theorem dX1_isSound_260 : decode cX1_isSound 260 = .ok (.aload_n 3, 1) := dk_45 (dk_at dksX1_isSound_11 9 rfl rfl)
theorem dX1_isSound_261 : decode cX1_isSound 261 = .ok (.invokevirtual 214, 3) := dk_182 0 214 (dk_at dksX1_isSound_11 10 rfl rfl)
theorem dX1_isSound_264 : decode cX1_isSound 264 = .ok (.ifCond .eq 12, 3) := dk_153 0 12 (dk_at dksX1_isSound_11 13 rfl rfl)
theorem dX1_isSound_267 : decode cX1_isSound 267 = .ok (.aload_n 3, 1) := dk_45 (dk_at dksX1_isSound_11 16 rfl rfl)
theorem dX1_isSound_268 : decode cX1_isSound 268 = .ok (.invokevirtual 300, 3) := dk_182 1 44 (dk_at dksX1_isSound_11 17 rfl rfl)
theorem dX1_isSound_271 : decode cX1_isSound 271 = .ok (.ifCond .eq 5, 3) := dk_153 0 5 (dk_at dksX1_isSound_11 20 rfl rfl)
theorem dX1_isSound_274 : decode cX1_isSound 274 = .ok (.iconst 0, 1) := dk_3 (dk_at dksX1_isSound_11 23 rfl rfl)
theorem dX1_isSound_275 : decode cX1_isSound 275 = .ok (.ireturn, 1) := dk_172 (dk_at dksX1_isSound_12 0 rfl rfl)
theorem dX1_isSound_276 : decode cX1_isSound 276 = .ok (.goto (-35), 3) := dk_167 255 221 (dk_at dksX1_isSound_12 1 rfl rfl)
theorem dX1_isSound_279 : decode cX1_isSound 279 = .ok (.iconst 1, 1) := dk_4 (dk_at dksX1_isSound_12 4 rfl rfl)
theorem dX1_isSound_280 : decode cX1_isSound 280 = .ok (.ireturn, 1) := dk_172 (dk_at dksX1_isSound_12 5 rfl rfl)
abbrev cX1_sealOf : ByteArray := prog_1_method_60_code
def yX1_sealOf : MethodName := ⟨RX1, "sealOf", "(I[I)I"⟩
def dkwX1_sealOf_3 : List UInt8 := [172]
abbrev dktX1_sealOf_3 : List UInt8 := dkwX1_sealOf_3 ++ []
def dkwX1_sealOf_2 : List UInt8 := [20, 1, 147, 113, 65, 22, 4, 26, 133, 105, 20, 1, 147, 113, 55, 4, 132, 8, 1, 167, 255, 207, 32, 136]
abbrev dktX1_sealOf_2 : List UInt8 := dkwX1_sealOf_2 ++ dktX1_sealOf_3
def dkwX1_sealOf_1 : List UInt8 := [25, 6, 21, 8, 46, 54, 9, 32, 22, 4, 21, 9, 5, 96, 19, 1, 143, 184, 1, 144, 133, 105, 97]
abbrev dktX1_sealOf_1 : List UInt8 := dkwX1_sealOf_1 ++ dktX1_sealOf_2
def dkwX1_sealOf_0 : List UInt8 := [9, 65, 26, 133, 55, 4, 43, 58, 6, 25, 6, 190, 54, 7, 3, 54, 8, 21, 8, 21, 7, 162, 0, 48]
abbrev dktX1_sealOf_0 : List UInt8 := dkwX1_sealOf_0 ++ dktX1_sealOf_1
theorem dksX1_sealOf_0 : cX1_sealOf.data.toList.drop 0 = dktX1_sealOf_0 := by decide +kernel
theorem dksX1_sealOf_1 : cX1_sealOf.data.toList.drop 24 = dktX1_sealOf_1 := dk_seg dksX1_sealOf_0 24 rfl rfl
theorem dksX1_sealOf_2 : cX1_sealOf.data.toList.drop 47 = dktX1_sealOf_2 := dk_seg dksX1_sealOf_1 23 rfl rfl
theorem dksX1_sealOf_3 : cX1_sealOf.data.toList.drop 71 = dktX1_sealOf_3 := dk_seg dksX1_sealOf_2 24 rfl rfl
theorem dX1_sealOf_0 : decode cX1_sealOf 0 = .ok (.lconst 0, 1) := dk_9 (dk_at dksX1_sealOf_0 0 rfl rfl)
theorem dX1_sealOf_1 : decode cX1_sealOf 1 = .ok (.lstore_n 2, 1) := dk_65 (dk_at dksX1_sealOf_0 1 rfl rfl)
theorem dX1_sealOf_2 : decode cX1_sealOf 2 = .ok (.iload_n 0, 1) := dk_26 (dk_at dksX1_sealOf_0 2 rfl rfl)
theorem dX1_sealOf_3 : decode cX1_sealOf 3 = .ok (.i2l, 1) := dk_133 (dk_at dksX1_sealOf_0 3 rfl rfl)
theorem dX1_sealOf_4 : decode cX1_sealOf 4 = .ok (.lstore 4, 2) := dk_55 4 (dk_at dksX1_sealOf_0 4 rfl rfl)
theorem dX1_sealOf_6 : decode cX1_sealOf 6 = .ok (.aload_n 1, 1) := dk_43 (dk_at dksX1_sealOf_0 6 rfl rfl)
theorem dX1_sealOf_7 : decode cX1_sealOf 7 = .ok (.astore 6, 2) := dk_58 6 (dk_at dksX1_sealOf_0 7 rfl rfl)
theorem dX1_sealOf_9 : decode cX1_sealOf 9 = .ok (.aload 6, 2) := dk_25 6 (dk_at dksX1_sealOf_0 9 rfl rfl)
theorem dX1_sealOf_11 : decode cX1_sealOf 11 = .ok (.arraylength, 1) := dk_190 (dk_at dksX1_sealOf_0 11 rfl rfl)
theorem dX1_sealOf_12 : decode cX1_sealOf 12 = .ok (.istore 7, 2) := dk_54 7 (dk_at dksX1_sealOf_0 12 rfl rfl)
theorem dX1_sealOf_14 : decode cX1_sealOf 14 = .ok (.iconst 0, 1) := dk_3 (dk_at dksX1_sealOf_0 14 rfl rfl)
theorem dX1_sealOf_15 : decode cX1_sealOf 15 = .ok (.istore 8, 2) := dk_54 8 (dk_at dksX1_sealOf_0 15 rfl rfl)
theorem dX1_sealOf_17 : decode cX1_sealOf 17 = .ok (.iload 8, 2) := dk_21 8 (dk_at dksX1_sealOf_0 17 rfl rfl)
theorem dX1_sealOf_19 : decode cX1_sealOf 19 = .ok (.iload 7, 2) := dk_21 7 (dk_at dksX1_sealOf_0 19 rfl rfl)
theorem dX1_sealOf_21 : decode cX1_sealOf 21 = .ok (.if_icmp .ge 48, 3) := dk_162 0 48 (dk_at dksX1_sealOf_0 21 rfl rfl)
theorem dX1_sealOf_24 : decode cX1_sealOf 24 = .ok (.aload 6, 2) := dk_25 6 (dk_at dksX1_sealOf_1 0 rfl rfl)
theorem dX1_sealOf_26 : decode cX1_sealOf 26 = .ok (.iload 8, 2) := dk_21 8 (dk_at dksX1_sealOf_1 2 rfl rfl)
theorem dX1_sealOf_28 : decode cX1_sealOf 28 = .ok (.iaload, 1) := dk_46 (dk_at dksX1_sealOf_1 4 rfl rfl)
theorem dX1_sealOf_29 : decode cX1_sealOf 29 = .ok (.istore 9, 2) := dk_54 9 (dk_at dksX1_sealOf_1 5 rfl rfl)
theorem dX1_sealOf_31 : decode cX1_sealOf 31 = .ok (.lload_n 2, 1) := dk_32 (dk_at dksX1_sealOf_1 7 rfl rfl)
theorem dX1_sealOf_32 : decode cX1_sealOf 32 = .ok (.lload 4, 2) := dk_22 4 (dk_at dksX1_sealOf_1 8 rfl rfl)
theorem dX1_sealOf_34 : decode cX1_sealOf 34 = .ok (.iload 9, 2) := dk_21 9 (dk_at dksX1_sealOf_1 10 rfl rfl)
theorem dX1_sealOf_36 : decode cX1_sealOf 36 = .ok (.iconst 2, 1) := dk_5 (dk_at dksX1_sealOf_1 12 rfl rfl)
theorem dX1_sealOf_37 : decode cX1_sealOf 37 = .ok (.iadd, 1) := dk_96 (dk_at dksX1_sealOf_1 13 rfl rfl)
theorem dX1_sealOf_38 : decode cX1_sealOf 38 = .ok (.ldc_w 399, 3) := dk_19 1 143 (dk_at dksX1_sealOf_1 14 rfl rfl)
theorem dX1_sealOf_41 : decode cX1_sealOf 41 = .ok (.invokestatic 400, 3) := dk_184 1 144 (dk_at dksX1_sealOf_1 17 rfl rfl)
theorem dX1_sealOf_44 : decode cX1_sealOf 44 = .ok (.i2l, 1) := dk_133 (dk_at dksX1_sealOf_1 20 rfl rfl)
theorem dX1_sealOf_45 : decode cX1_sealOf 45 = .ok (.lmul, 1) := dk_105 (dk_at dksX1_sealOf_1 21 rfl rfl)
theorem dX1_sealOf_46 : decode cX1_sealOf 46 = .ok (.ladd, 1) := dk_97 (dk_at dksX1_sealOf_1 22 rfl rfl)
theorem dX1_sealOf_47 : decode cX1_sealOf 47 = .ok (.ldc2_w 403, 3) := dk_20 1 147 (dk_at dksX1_sealOf_2 0 rfl rfl)
theorem dX1_sealOf_50 : decode cX1_sealOf 50 = .ok (.lrem, 1) := dk_113 (dk_at dksX1_sealOf_2 3 rfl rfl)
theorem dX1_sealOf_51 : decode cX1_sealOf 51 = .ok (.lstore_n 2, 1) := dk_65 (dk_at dksX1_sealOf_2 4 rfl rfl)
theorem dX1_sealOf_52 : decode cX1_sealOf 52 = .ok (.lload 4, 2) := dk_22 4 (dk_at dksX1_sealOf_2 5 rfl rfl)
theorem dX1_sealOf_54 : decode cX1_sealOf 54 = .ok (.iload_n 0, 1) := dk_26 (dk_at dksX1_sealOf_2 7 rfl rfl)
theorem dX1_sealOf_55 : decode cX1_sealOf 55 = .ok (.i2l, 1) := dk_133 (dk_at dksX1_sealOf_2 8 rfl rfl)
theorem dX1_sealOf_56 : decode cX1_sealOf 56 = .ok (.lmul, 1) := dk_105 (dk_at dksX1_sealOf_2 9 rfl rfl)
theorem dX1_sealOf_57 : decode cX1_sealOf 57 = .ok (.ldc2_w 403, 3) := dk_20 1 147 (dk_at dksX1_sealOf_2 10 rfl rfl)
theorem dX1_sealOf_60 : decode cX1_sealOf 60 = .ok (.lrem, 1) := dk_113 (dk_at dksX1_sealOf_2 13 rfl rfl)
theorem dX1_sealOf_61 : decode cX1_sealOf 61 = .ok (.lstore 4, 2) := dk_55 4 (dk_at dksX1_sealOf_2 14 rfl rfl)
theorem dX1_sealOf_63 : decode cX1_sealOf 63 = .ok (.iinc 8 1, 3) := dk_132 8 1 (dk_at dksX1_sealOf_2 16 rfl rfl)
theorem dX1_sealOf_66 : decode cX1_sealOf 66 = .ok (.goto (-49), 3) := dk_167 255 207 (dk_at dksX1_sealOf_2 19 rfl rfl)
theorem dX1_sealOf_69 : decode cX1_sealOf 69 = .ok (.lload_n 2, 1) := dk_32 (dk_at dksX1_sealOf_2 22 rfl rfl)
theorem dX1_sealOf_70 : decode cX1_sealOf 70 = .ok (.l2i, 1) := dk_136 (dk_at dksX1_sealOf_2 23 rfl rfl)
theorem dX1_sealOf_71 : decode cX1_sealOf 71 = .ok (.ireturn, 1) := dk_172 (dk_at dksX1_sealOf_3 0 rfl rfl)
abbrev cX1_checksum : ByteArray := prog_1_method_38_code
def yX1_checksum : MethodName := ⟨RX1, "checksum", "()J"⟩
def dkwX1_checksum_20 : List UInt8 := [54, 6, 20, 1, 47, 31, 105, 21, 6, 133, 97, 64, 132, 5, 1, 167, 255, 230, 31, 173]
abbrev dktX1_checksum_20 : List UInt8 := dkwX1_checksum_20 ++ []
def dkwX1_checksum_19 : List UInt8 := [42, 180, 0, 38, 78, 45, 190, 54, 4, 3, 54, 5, 21, 5, 21, 4, 162, 0, 25, 45, 21, 5, 46]
abbrev dktX1_checksum_19 : List UInt8 := dkwX1_checksum_19 ++ dktX1_checksum_20
def dkwX1_checksum_18 : List UInt8 := [20, 1, 47, 31, 105, 25, 4, 21, 5, 182, 0, 211, 133, 97, 64, 132, 5, 1, 167, 255, 231, 167, 255, 205]
abbrev dktX1_checksum_18 : List UInt8 := dkwX1_checksum_18 ++ dktX1_checksum_19
def dkwX1_checksum_17 : List UInt8 := [153, 0, 48, 45, 185, 1, 37, 1, 0, 192, 0, 162, 58, 4, 3, 54, 5, 21, 5, 16, 9, 162, 0, 24]
abbrev dktX1_checksum_17 : List UInt8 := dkwX1_checksum_17 ++ dktX1_checksum_18
def dkwX1_checksum_16 : List UInt8 := [167, 255, 222, 132, 3, 1, 167, 255, 173, 42, 180, 0, 31, 182, 1, 28, 78, 45, 185, 1, 32, 1, 0]
abbrev dktX1_checksum_16 : List UInt8 := dkwX1_checksum_16 ++ dktX1_checksum_17
def dkwX1_checksum_15 : List UInt8 := [185, 1, 37, 1, 0, 192, 1, 7, 58, 5, 20, 1, 47, 31, 105, 25, 5, 6, 46, 133, 97, 64]
abbrev dktX1_checksum_15 : List UInt8 := dkwX1_checksum_15 ++ dktX1_checksum_16
def dkwX1_checksum_14 : List UInt8 := [192, 0, 28, 182, 1, 28, 58, 4, 25, 4, 185, 1, 32, 1, 0, 153, 0, 30, 25, 4]
abbrev dktX1_checksum_14 : List UInt8 := dkwX1_checksum_14 ++ dktX1_checksum_15
def dkwX1_checksum_13 : List UInt8 := [180, 0, 35, 29, 182, 0, 178, 192, 0, 28, 182, 0, 174, 133, 97, 64, 42, 180, 0, 35, 29, 182, 0, 178]
abbrev dktX1_checksum_13 : List UInt8 := dkwX1_checksum_13 ++ dktX1_checksum_14
def dkwX1_checksum_12 : List UInt8 := [167, 255, 66, 132, 3, 1, 167, 255, 52, 3, 62, 29, 6, 162, 0, 84, 20, 1, 47, 31, 105, 42]
abbrev dktX1_checksum_12 : List UInt8 := dkwX1_checksum_12 ++ dktX1_checksum_13
def dkwX1_checksum_11 : List UInt8 := [97, 64, 20, 1, 47, 31, 105, 25, 7, 180, 0, 235, 133, 97, 64, 132, 6, 1, 167, 255, 168, 132, 4, 1]
abbrev dktX1_checksum_11 : List UInt8 := dkwX1_checksum_11 ++ dktX1_checksum_12
def dkwX1_checksum_10 : List UInt8 := [20, 1, 47, 31, 105, 25, 7, 180, 0, 238, 133, 97, 64, 20, 1, 47, 31, 105, 25, 7, 180, 0, 126, 133]
abbrev dktX1_checksum_10 : List UInt8 := dkwX1_checksum_10 ++ dktX1_checksum_11
def dkwX1_checksum_9 : List UInt8 := [105, 20, 1, 49, 97, 64, 167, 0, 55, 20, 1, 47, 31, 105, 25, 7, 180, 0, 228, 133, 97, 64]
abbrev dktX1_checksum_9 : List UInt8 := dkwX1_checksum_9 ++ dktX1_checksum_10
def dkwX1_checksum_8 : List UInt8 := [21, 6, 6, 162, 0, 88, 25, 5, 21, 6, 182, 0, 225, 58, 7, 25, 7, 199, 0, 16, 20, 1, 47, 31]
abbrev dktX1_checksum_8 : List UInt8 := dkwX1_checksum_8 ++ dktX1_checksum_9
def dkwX1_checksum_7 : List UInt8 := [25, 5, 180, 1, 0, 133, 97, 64, 20, 1, 47, 31, 105, 25, 5, 180, 0, 244, 133, 97, 64, 3, 54, 6]
abbrev dktX1_checksum_7 : List UInt8 := dkwX1_checksum_7 ++ dktX1_checksum_8
def dkwX1_checksum_6 : List UInt8 := [199, 0, 7, 2, 167, 0, 11, 25, 5, 180, 0, 146, 180, 0, 150, 133, 97, 64, 20, 1, 47, 31, 105]
abbrev dktX1_checksum_6 : List UInt8 := dkwX1_checksum_6 ++ dktX1_checksum_7
def dkwX1_checksum_5 : List UInt8 := [20, 1, 47, 31, 105, 25, 5, 180, 0, 218, 133, 97, 64, 20, 1, 47, 31, 105, 25, 5, 180, 0, 146]
abbrev dktX1_checksum_5 : List UInt8 := dkwX1_checksum_5 ++ dktX1_checksum_6
def dkwX1_checksum_4 : List UInt8 := [6, 162, 0, 190, 21, 4, 29, 160, 0, 6, 167, 0, 175, 42, 180, 0, 25, 29, 50, 21, 4, 50, 58, 5]
abbrev dktX1_checksum_4 : List UInt8 := dkwX1_checksum_4 ++ dktX1_checksum_5
def dkwX1_checksum_3 : List UInt8 := [180, 0, 82, 133, 97, 64, 132, 3, 1, 167, 255, 195, 3, 62, 29, 6, 162, 0, 205, 3, 54, 4, 21, 4]
abbrev dktX1_checksum_3 : List UInt8 := dkwX1_checksum_3 ++ dktX1_checksum_4
def dkwX1_checksum_2 : List UInt8 := [51, 153, 0, 7, 4, 167, 0, 4, 3, 133, 97, 64, 20, 1, 47, 31, 105, 42, 180, 0, 19, 29, 50]
abbrev dktX1_checksum_2 : List UInt8 := dkwX1_checksum_2 ++ dktX1_checksum_3
def dkwX1_checksum_1 : List UInt8 := [20, 1, 47, 31, 105, 42, 180, 0, 7, 29, 46, 133, 97, 64, 20, 1, 47, 31, 105, 42, 180, 0, 13, 29]
abbrev dktX1_checksum_1 : List UInt8 := dkwX1_checksum_1 ++ dktX1_checksum_2
def dkwX1_checksum_0 : List UInt8 := [20, 1, 47, 64, 20, 1, 47, 31, 105, 42, 180, 0, 58, 133, 97, 64, 3, 62, 29, 6, 162, 0, 62]
abbrev dktX1_checksum_0 : List UInt8 := dkwX1_checksum_0 ++ dktX1_checksum_1
theorem dksX1_checksum_0 : cX1_checksum.data.toList.drop 0 = dktX1_checksum_0 := by decide +kernel
theorem dksX1_checksum_1 : cX1_checksum.data.toList.drop 23 = dktX1_checksum_1 := dk_seg dksX1_checksum_0 23 rfl rfl
theorem dksX1_checksum_2 : cX1_checksum.data.toList.drop 47 = dktX1_checksum_2 := dk_seg dksX1_checksum_1 24 rfl rfl
theorem dksX1_checksum_3 : cX1_checksum.data.toList.drop 70 = dktX1_checksum_3 := dk_seg dksX1_checksum_2 23 rfl rfl
theorem dksX1_checksum_4 : cX1_checksum.data.toList.drop 94 = dktX1_checksum_4 := dk_seg dksX1_checksum_3 24 rfl rfl
theorem dksX1_checksum_5 : cX1_checksum.data.toList.drop 118 = dktX1_checksum_5 := dk_seg dksX1_checksum_4 24 rfl rfl
theorem dksX1_checksum_6 : cX1_checksum.data.toList.drop 141 = dktX1_checksum_6 := dk_seg dksX1_checksum_5 23 rfl rfl
theorem dksX1_checksum_7 : cX1_checksum.data.toList.drop 164 = dktX1_checksum_7 := dk_seg dksX1_checksum_6 23 rfl rfl
theorem dksX1_checksum_8 : cX1_checksum.data.toList.drop 188 = dktX1_checksum_8 := dk_seg dksX1_checksum_7 24 rfl rfl
theorem dksX1_checksum_9 : cX1_checksum.data.toList.drop 212 = dktX1_checksum_9 := dk_seg dksX1_checksum_8 24 rfl rfl
theorem dksX1_checksum_10 : cX1_checksum.data.toList.drop 234 = dktX1_checksum_10 := dk_seg dksX1_checksum_9 22 rfl rfl
theorem dksX1_checksum_11 : cX1_checksum.data.toList.drop 258 = dktX1_checksum_11 := dk_seg dksX1_checksum_10 24 rfl rfl
theorem dksX1_checksum_12 : cX1_checksum.data.toList.drop 282 = dktX1_checksum_12 := dk_seg dksX1_checksum_11 24 rfl rfl
theorem dksX1_checksum_13 : cX1_checksum.data.toList.drop 304 = dktX1_checksum_13 := dk_seg dksX1_checksum_12 22 rfl rfl
theorem dksX1_checksum_14 : cX1_checksum.data.toList.drop 328 = dktX1_checksum_14 := dk_seg dksX1_checksum_13 24 rfl rfl
theorem dksX1_checksum_15 : cX1_checksum.data.toList.drop 348 = dktX1_checksum_15 := dk_seg dksX1_checksum_14 20 rfl rfl
theorem dksX1_checksum_16 : cX1_checksum.data.toList.drop 370 = dktX1_checksum_16 := dk_seg dksX1_checksum_15 22 rfl rfl
theorem dksX1_checksum_17 : cX1_checksum.data.toList.drop 393 = dktX1_checksum_17 := dk_seg dksX1_checksum_16 23 rfl rfl
theorem dksX1_checksum_18 : cX1_checksum.data.toList.drop 417 = dktX1_checksum_18 := dk_seg dksX1_checksum_17 24 rfl rfl
theorem dksX1_checksum_19 : cX1_checksum.data.toList.drop 441 = dktX1_checksum_19 := dk_seg dksX1_checksum_18 24 rfl rfl
theorem dksX1_checksum_20 : cX1_checksum.data.toList.drop 464 = dktX1_checksum_20 := dk_seg dksX1_checksum_19 23 rfl rfl
theorem dX1_checksum_0 : decode cX1_checksum 0 = .ok (.ldc2_w 303, 3) := dk_20 1 47 (dk_at dksX1_checksum_0 0 rfl rfl)
theorem dX1_checksum_3 : decode cX1_checksum 3 = .ok (.lstore_n 1, 1) := dk_64 (dk_at dksX1_checksum_0 3 rfl rfl)
theorem dX1_checksum_4 : decode cX1_checksum 4 = .ok (.ldc2_w 303, 3) := dk_20 1 47 (dk_at dksX1_checksum_0 4 rfl rfl)
theorem dX1_checksum_7 : decode cX1_checksum 7 = .ok (.lload_n 1, 1) := dk_31 (dk_at dksX1_checksum_0 7 rfl rfl)
theorem dX1_checksum_8 : decode cX1_checksum 8 = .ok (.lmul, 1) := dk_105 (dk_at dksX1_checksum_0 8 rfl rfl)
theorem dX1_checksum_9 : decode cX1_checksum 9 = .ok (.aload_n 0, 1) := dk_42 (dk_at dksX1_checksum_0 9 rfl rfl)
theorem dX1_checksum_10 : decode cX1_checksum 10 = .ok (.getfield 58, 3) := dk_180 0 58 (dk_at dksX1_checksum_0 10 rfl rfl)
theorem dX1_checksum_13 : decode cX1_checksum 13 = .ok (.i2l, 1) := dk_133 (dk_at dksX1_checksum_0 13 rfl rfl)
theorem dX1_checksum_14 : decode cX1_checksum 14 = .ok (.ladd, 1) := dk_97 (dk_at dksX1_checksum_0 14 rfl rfl)
theorem dX1_checksum_15 : decode cX1_checksum 15 = .ok (.lstore_n 1, 1) := dk_64 (dk_at dksX1_checksum_0 15 rfl rfl)
theorem dX1_checksum_16 : decode cX1_checksum 16 = .ok (.iconst 0, 1) := dk_3 (dk_at dksX1_checksum_0 16 rfl rfl)
theorem dX1_checksum_17 : decode cX1_checksum 17 = .ok (.istore_n 3, 1) := dk_62 (dk_at dksX1_checksum_0 17 rfl rfl)
theorem dX1_checksum_18 : decode cX1_checksum 18 = .ok (.iload_n 3, 1) := dk_29 (dk_at dksX1_checksum_0 18 rfl rfl)
theorem dX1_checksum_19 : decode cX1_checksum 19 = .ok (.iconst 3, 1) := dk_6 (dk_at dksX1_checksum_0 19 rfl rfl)
theorem dX1_checksum_20 : decode cX1_checksum 20 = .ok (.if_icmp .ge 62, 3) := dk_162 0 62 (dk_at dksX1_checksum_0 20 rfl rfl)
theorem dX1_checksum_23 : decode cX1_checksum 23 = .ok (.ldc2_w 303, 3) := dk_20 1 47 (dk_at dksX1_checksum_1 0 rfl rfl)
theorem dX1_checksum_26 : decode cX1_checksum 26 = .ok (.lload_n 1, 1) := dk_31 (dk_at dksX1_checksum_1 3 rfl rfl)
theorem dX1_checksum_27 : decode cX1_checksum 27 = .ok (.lmul, 1) := dk_105 (dk_at dksX1_checksum_1 4 rfl rfl)
theorem dX1_checksum_28 : decode cX1_checksum 28 = .ok (.aload_n 0, 1) := dk_42 (dk_at dksX1_checksum_1 5 rfl rfl)
theorem dX1_checksum_29 : decode cX1_checksum 29 = .ok (.getfield 7, 3) := dk_180 0 7 (dk_at dksX1_checksum_1 6 rfl rfl)
theorem dX1_checksum_32 : decode cX1_checksum 32 = .ok (.iload_n 3, 1) := dk_29 (dk_at dksX1_checksum_1 9 rfl rfl)
theorem dX1_checksum_33 : decode cX1_checksum 33 = .ok (.iaload, 1) := dk_46 (dk_at dksX1_checksum_1 10 rfl rfl)
theorem dX1_checksum_34 : decode cX1_checksum 34 = .ok (.i2l, 1) := dk_133 (dk_at dksX1_checksum_1 11 rfl rfl)
theorem dX1_checksum_35 : decode cX1_checksum 35 = .ok (.ladd, 1) := dk_97 (dk_at dksX1_checksum_1 12 rfl rfl)
theorem dX1_checksum_36 : decode cX1_checksum 36 = .ok (.lstore_n 1, 1) := dk_64 (dk_at dksX1_checksum_1 13 rfl rfl)
theorem dX1_checksum_37 : decode cX1_checksum 37 = .ok (.ldc2_w 303, 3) := dk_20 1 47 (dk_at dksX1_checksum_1 14 rfl rfl)
theorem dX1_checksum_40 : decode cX1_checksum 40 = .ok (.lload_n 1, 1) := dk_31 (dk_at dksX1_checksum_1 17 rfl rfl)
theorem dX1_checksum_41 : decode cX1_checksum 41 = .ok (.lmul, 1) := dk_105 (dk_at dksX1_checksum_1 18 rfl rfl)
theorem dX1_checksum_42 : decode cX1_checksum 42 = .ok (.aload_n 0, 1) := dk_42 (dk_at dksX1_checksum_1 19 rfl rfl)
theorem dX1_checksum_43 : decode cX1_checksum 43 = .ok (.getfield 13, 3) := dk_180 0 13 (dk_at dksX1_checksum_1 20 rfl rfl)
theorem dX1_checksum_46 : decode cX1_checksum 46 = .ok (.iload_n 3, 1) := dk_29 (dk_at dksX1_checksum_1 23 rfl rfl)
theorem dX1_checksum_47 : decode cX1_checksum 47 = .ok (.baload, 1) := dk_51 (dk_at dksX1_checksum_2 0 rfl rfl)
theorem dX1_checksum_48 : decode cX1_checksum 48 = .ok (.ifCond .eq 7, 3) := dk_153 0 7 (dk_at dksX1_checksum_2 1 rfl rfl)
theorem dX1_checksum_51 : decode cX1_checksum 51 = .ok (.iconst 1, 1) := dk_4 (dk_at dksX1_checksum_2 4 rfl rfl)
theorem dX1_checksum_52 : decode cX1_checksum 52 = .ok (.goto 4, 3) := dk_167 0 4 (dk_at dksX1_checksum_2 5 rfl rfl)
theorem dX1_checksum_55 : decode cX1_checksum 55 = .ok (.iconst 0, 1) := dk_3 (dk_at dksX1_checksum_2 8 rfl rfl)
theorem dX1_checksum_56 : decode cX1_checksum 56 = .ok (.i2l, 1) := dk_133 (dk_at dksX1_checksum_2 9 rfl rfl)
theorem dX1_checksum_57 : decode cX1_checksum 57 = .ok (.ladd, 1) := dk_97 (dk_at dksX1_checksum_2 10 rfl rfl)
theorem dX1_checksum_58 : decode cX1_checksum 58 = .ok (.lstore_n 1, 1) := dk_64 (dk_at dksX1_checksum_2 11 rfl rfl)
theorem dX1_checksum_59 : decode cX1_checksum 59 = .ok (.ldc2_w 303, 3) := dk_20 1 47 (dk_at dksX1_checksum_2 12 rfl rfl)
theorem dX1_checksum_62 : decode cX1_checksum 62 = .ok (.lload_n 1, 1) := dk_31 (dk_at dksX1_checksum_2 15 rfl rfl)
theorem dX1_checksum_63 : decode cX1_checksum 63 = .ok (.lmul, 1) := dk_105 (dk_at dksX1_checksum_2 16 rfl rfl)
theorem dX1_checksum_64 : decode cX1_checksum 64 = .ok (.aload_n 0, 1) := dk_42 (dk_at dksX1_checksum_2 17 rfl rfl)
theorem dX1_checksum_65 : decode cX1_checksum 65 = .ok (.getfield 19, 3) := dk_180 0 19 (dk_at dksX1_checksum_2 18 rfl rfl)
theorem dX1_checksum_68 : decode cX1_checksum 68 = .ok (.iload_n 3, 1) := dk_29 (dk_at dksX1_checksum_2 21 rfl rfl)
theorem dX1_checksum_69 : decode cX1_checksum 69 = .ok (.aaload, 1) := dk_50 (dk_at dksX1_checksum_2 22 rfl rfl)
theorem dX1_checksum_70 : decode cX1_checksum 70 = .ok (.getfield 82, 3) := dk_180 0 82 (dk_at dksX1_checksum_3 0 rfl rfl)
theorem dX1_checksum_73 : decode cX1_checksum 73 = .ok (.i2l, 1) := dk_133 (dk_at dksX1_checksum_3 3 rfl rfl)
theorem dX1_checksum_74 : decode cX1_checksum 74 = .ok (.ladd, 1) := dk_97 (dk_at dksX1_checksum_3 4 rfl rfl)
theorem dX1_checksum_75 : decode cX1_checksum 75 = .ok (.lstore_n 1, 1) := dk_64 (dk_at dksX1_checksum_3 5 rfl rfl)
theorem dX1_checksum_76 : decode cX1_checksum 76 = .ok (.iinc 3 1, 3) := dk_132 3 1 (dk_at dksX1_checksum_3 6 rfl rfl)
theorem dX1_checksum_79 : decode cX1_checksum 79 = .ok (.goto (-61), 3) := dk_167 255 195 (dk_at dksX1_checksum_3 9 rfl rfl)
theorem dX1_checksum_82 : decode cX1_checksum 82 = .ok (.iconst 0, 1) := dk_3 (dk_at dksX1_checksum_3 12 rfl rfl)
theorem dX1_checksum_83 : decode cX1_checksum 83 = .ok (.istore_n 3, 1) := dk_62 (dk_at dksX1_checksum_3 13 rfl rfl)
theorem dX1_checksum_84 : decode cX1_checksum 84 = .ok (.iload_n 3, 1) := dk_29 (dk_at dksX1_checksum_3 14 rfl rfl)
theorem dX1_checksum_85 : decode cX1_checksum 85 = .ok (.iconst 3, 1) := dk_6 (dk_at dksX1_checksum_3 15 rfl rfl)
theorem dX1_checksum_86 : decode cX1_checksum 86 = .ok (.if_icmp .ge 205, 3) := dk_162 0 205 (dk_at dksX1_checksum_3 16 rfl rfl)
theorem dX1_checksum_89 : decode cX1_checksum 89 = .ok (.iconst 0, 1) := dk_3 (dk_at dksX1_checksum_3 19 rfl rfl)
theorem dX1_checksum_90 : decode cX1_checksum 90 = .ok (.istore 4, 2) := dk_54 4 (dk_at dksX1_checksum_3 20 rfl rfl)
theorem dX1_checksum_92 : decode cX1_checksum 92 = .ok (.iload 4, 2) := dk_21 4 (dk_at dksX1_checksum_3 22 rfl rfl)
theorem dX1_checksum_94 : decode cX1_checksum 94 = .ok (.iconst 3, 1) := dk_6 (dk_at dksX1_checksum_4 0 rfl rfl)
theorem dX1_checksum_95 : decode cX1_checksum 95 = .ok (.if_icmp .ge 190, 3) := dk_162 0 190 (dk_at dksX1_checksum_4 1 rfl rfl)
theorem dX1_checksum_98 : decode cX1_checksum 98 = .ok (.iload 4, 2) := dk_21 4 (dk_at dksX1_checksum_4 4 rfl rfl)
theorem dX1_checksum_100 : decode cX1_checksum 100 = .ok (.iload_n 3, 1) := dk_29 (dk_at dksX1_checksum_4 6 rfl rfl)
theorem dX1_checksum_101 : decode cX1_checksum 101 = .ok (.if_icmp .ne 6, 3) := dk_160 0 6 (dk_at dksX1_checksum_4 7 rfl rfl)
theorem dX1_checksum_104 : decode cX1_checksum 104 = .ok (.goto 175, 3) := dk_167 0 175 (dk_at dksX1_checksum_4 10 rfl rfl)
theorem dX1_checksum_107 : decode cX1_checksum 107 = .ok (.aload_n 0, 1) := dk_42 (dk_at dksX1_checksum_4 13 rfl rfl)
theorem dX1_checksum_108 : decode cX1_checksum 108 = .ok (.getfield 25, 3) := dk_180 0 25 (dk_at dksX1_checksum_4 14 rfl rfl)
theorem dX1_checksum_111 : decode cX1_checksum 111 = .ok (.iload_n 3, 1) := dk_29 (dk_at dksX1_checksum_4 17 rfl rfl)
theorem dX1_checksum_112 : decode cX1_checksum 112 = .ok (.aaload, 1) := dk_50 (dk_at dksX1_checksum_4 18 rfl rfl)
theorem dX1_checksum_113 : decode cX1_checksum 113 = .ok (.iload 4, 2) := dk_21 4 (dk_at dksX1_checksum_4 19 rfl rfl)
theorem dX1_checksum_115 : decode cX1_checksum 115 = .ok (.aaload, 1) := dk_50 (dk_at dksX1_checksum_4 21 rfl rfl)
theorem dX1_checksum_116 : decode cX1_checksum 116 = .ok (.astore 5, 2) := dk_58 5 (dk_at dksX1_checksum_4 22 rfl rfl)
theorem dX1_checksum_118 : decode cX1_checksum 118 = .ok (.ldc2_w 303, 3) := dk_20 1 47 (dk_at dksX1_checksum_5 0 rfl rfl)
theorem dX1_checksum_121 : decode cX1_checksum 121 = .ok (.lload_n 1, 1) := dk_31 (dk_at dksX1_checksum_5 3 rfl rfl)
theorem dX1_checksum_122 : decode cX1_checksum 122 = .ok (.lmul, 1) := dk_105 (dk_at dksX1_checksum_5 4 rfl rfl)
theorem dX1_checksum_123 : decode cX1_checksum 123 = .ok (.aload 5, 2) := dk_25 5 (dk_at dksX1_checksum_5 5 rfl rfl)
theorem dX1_checksum_125 : decode cX1_checksum 125 = .ok (.getfield 218, 3) := dk_180 0 218 (dk_at dksX1_checksum_5 7 rfl rfl)
theorem dX1_checksum_128 : decode cX1_checksum 128 = .ok (.i2l, 1) := dk_133 (dk_at dksX1_checksum_5 10 rfl rfl)
theorem dX1_checksum_129 : decode cX1_checksum 129 = .ok (.ladd, 1) := dk_97 (dk_at dksX1_checksum_5 11 rfl rfl)
theorem dX1_checksum_130 : decode cX1_checksum 130 = .ok (.lstore_n 1, 1) := dk_64 (dk_at dksX1_checksum_5 12 rfl rfl)
theorem dX1_checksum_131 : decode cX1_checksum 131 = .ok (.ldc2_w 303, 3) := dk_20 1 47 (dk_at dksX1_checksum_5 13 rfl rfl)
theorem dX1_checksum_134 : decode cX1_checksum 134 = .ok (.lload_n 1, 1) := dk_31 (dk_at dksX1_checksum_5 16 rfl rfl)
theorem dX1_checksum_135 : decode cX1_checksum 135 = .ok (.lmul, 1) := dk_105 (dk_at dksX1_checksum_5 17 rfl rfl)
theorem dX1_checksum_136 : decode cX1_checksum 136 = .ok (.aload 5, 2) := dk_25 5 (dk_at dksX1_checksum_5 18 rfl rfl)
theorem dX1_checksum_138 : decode cX1_checksum 138 = .ok (.getfield 146, 3) := dk_180 0 146 (dk_at dksX1_checksum_5 20 rfl rfl)
theorem dX1_checksum_141 : decode cX1_checksum 141 = .ok (.ifnonnull 7, 3) := dk_199 0 7 (dk_at dksX1_checksum_6 0 rfl rfl)
theorem dX1_checksum_144 : decode cX1_checksum 144 = .ok (.iconst (-1), 1) := dk_2 (dk_at dksX1_checksum_6 3 rfl rfl)
theorem dX1_checksum_145 : decode cX1_checksum 145 = .ok (.goto 11, 3) := dk_167 0 11 (dk_at dksX1_checksum_6 4 rfl rfl)
theorem dX1_checksum_148 : decode cX1_checksum 148 = .ok (.aload 5, 2) := dk_25 5 (dk_at dksX1_checksum_6 7 rfl rfl)
theorem dX1_checksum_150 : decode cX1_checksum 150 = .ok (.getfield 146, 3) := dk_180 0 146 (dk_at dksX1_checksum_6 9 rfl rfl)
theorem dX1_checksum_153 : decode cX1_checksum 153 = .ok (.getfield 150, 3) := dk_180 0 150 (dk_at dksX1_checksum_6 12 rfl rfl)
theorem dX1_checksum_156 : decode cX1_checksum 156 = .ok (.i2l, 1) := dk_133 (dk_at dksX1_checksum_6 15 rfl rfl)
theorem dX1_checksum_157 : decode cX1_checksum 157 = .ok (.ladd, 1) := dk_97 (dk_at dksX1_checksum_6 16 rfl rfl)
theorem dX1_checksum_158 : decode cX1_checksum 158 = .ok (.lstore_n 1, 1) := dk_64 (dk_at dksX1_checksum_6 17 rfl rfl)
theorem dX1_checksum_159 : decode cX1_checksum 159 = .ok (.ldc2_w 303, 3) := dk_20 1 47 (dk_at dksX1_checksum_6 18 rfl rfl)
theorem dX1_checksum_162 : decode cX1_checksum 162 = .ok (.lload_n 1, 1) := dk_31 (dk_at dksX1_checksum_6 21 rfl rfl)
theorem dX1_checksum_163 : decode cX1_checksum 163 = .ok (.lmul, 1) := dk_105 (dk_at dksX1_checksum_6 22 rfl rfl)
theorem dX1_checksum_164 : decode cX1_checksum 164 = .ok (.aload 5, 2) := dk_25 5 (dk_at dksX1_checksum_7 0 rfl rfl)
theorem dX1_checksum_166 : decode cX1_checksum 166 = .ok (.getfield 256, 3) := dk_180 1 0 (dk_at dksX1_checksum_7 2 rfl rfl)
theorem dX1_checksum_169 : decode cX1_checksum 169 = .ok (.i2l, 1) := dk_133 (dk_at dksX1_checksum_7 5 rfl rfl)
theorem dX1_checksum_170 : decode cX1_checksum 170 = .ok (.ladd, 1) := dk_97 (dk_at dksX1_checksum_7 6 rfl rfl)
theorem dX1_checksum_171 : decode cX1_checksum 171 = .ok (.lstore_n 1, 1) := dk_64 (dk_at dksX1_checksum_7 7 rfl rfl)
theorem dX1_checksum_172 : decode cX1_checksum 172 = .ok (.ldc2_w 303, 3) := dk_20 1 47 (dk_at dksX1_checksum_7 8 rfl rfl)
theorem dX1_checksum_175 : decode cX1_checksum 175 = .ok (.lload_n 1, 1) := dk_31 (dk_at dksX1_checksum_7 11 rfl rfl)
theorem dX1_checksum_176 : decode cX1_checksum 176 = .ok (.lmul, 1) := dk_105 (dk_at dksX1_checksum_7 12 rfl rfl)
theorem dX1_checksum_177 : decode cX1_checksum 177 = .ok (.aload 5, 2) := dk_25 5 (dk_at dksX1_checksum_7 13 rfl rfl)
theorem dX1_checksum_179 : decode cX1_checksum 179 = .ok (.getfield 244, 3) := dk_180 0 244 (dk_at dksX1_checksum_7 15 rfl rfl)
theorem dX1_checksum_182 : decode cX1_checksum 182 = .ok (.i2l, 1) := dk_133 (dk_at dksX1_checksum_7 18 rfl rfl)
theorem dX1_checksum_183 : decode cX1_checksum 183 = .ok (.ladd, 1) := dk_97 (dk_at dksX1_checksum_7 19 rfl rfl)
theorem dX1_checksum_184 : decode cX1_checksum 184 = .ok (.lstore_n 1, 1) := dk_64 (dk_at dksX1_checksum_7 20 rfl rfl)
theorem dX1_checksum_185 : decode cX1_checksum 185 = .ok (.iconst 0, 1) := dk_3 (dk_at dksX1_checksum_7 21 rfl rfl)
theorem dX1_checksum_186 : decode cX1_checksum 186 = .ok (.istore 6, 2) := dk_54 6 (dk_at dksX1_checksum_7 22 rfl rfl)
theorem dX1_checksum_188 : decode cX1_checksum 188 = .ok (.iload 6, 2) := dk_21 6 (dk_at dksX1_checksum_8 0 rfl rfl)
theorem dX1_checksum_190 : decode cX1_checksum 190 = .ok (.iconst 3, 1) := dk_6 (dk_at dksX1_checksum_8 2 rfl rfl)
theorem dX1_checksum_191 : decode cX1_checksum 191 = .ok (.if_icmp .ge 88, 3) := dk_162 0 88 (dk_at dksX1_checksum_8 3 rfl rfl)
theorem dX1_checksum_194 : decode cX1_checksum 194 = .ok (.aload 5, 2) := dk_25 5 (dk_at dksX1_checksum_8 6 rfl rfl)
theorem dX1_checksum_196 : decode cX1_checksum 196 = .ok (.iload 6, 2) := dk_21 6 (dk_at dksX1_checksum_8 8 rfl rfl)
theorem dX1_checksum_198 : decode cX1_checksum 198 = .ok (.invokevirtual 225, 3) := dk_182 0 225 (dk_at dksX1_checksum_8 10 rfl rfl)
theorem dX1_checksum_201 : decode cX1_checksum 201 = .ok (.astore 7, 2) := dk_58 7 (dk_at dksX1_checksum_8 13 rfl rfl)
theorem dX1_checksum_203 : decode cX1_checksum 203 = .ok (.aload 7, 2) := dk_25 7 (dk_at dksX1_checksum_8 15 rfl rfl)
theorem dX1_checksum_205 : decode cX1_checksum 205 = .ok (.ifnonnull 16, 3) := dk_199 0 16 (dk_at dksX1_checksum_8 17 rfl rfl)
theorem dX1_checksum_208 : decode cX1_checksum 208 = .ok (.ldc2_w 303, 3) := dk_20 1 47 (dk_at dksX1_checksum_8 20 rfl rfl)
theorem dX1_checksum_211 : decode cX1_checksum 211 = .ok (.lload_n 1, 1) := dk_31 (dk_at dksX1_checksum_8 23 rfl rfl)
theorem dX1_checksum_212 : decode cX1_checksum 212 = .ok (.lmul, 1) := dk_105 (dk_at dksX1_checksum_9 0 rfl rfl)
theorem dX1_checksum_213 : decode cX1_checksum 213 = .ok (.ldc2_w 305, 3) := dk_20 1 49 (dk_at dksX1_checksum_9 1 rfl rfl)
theorem dX1_checksum_216 : decode cX1_checksum 216 = .ok (.ladd, 1) := dk_97 (dk_at dksX1_checksum_9 4 rfl rfl)
theorem dX1_checksum_217 : decode cX1_checksum 217 = .ok (.lstore_n 1, 1) := dk_64 (dk_at dksX1_checksum_9 5 rfl rfl)
theorem dX1_checksum_218 : decode cX1_checksum 218 = .ok (.goto 55, 3) := dk_167 0 55 (dk_at dksX1_checksum_9 6 rfl rfl)
theorem dX1_checksum_221 : decode cX1_checksum 221 = .ok (.ldc2_w 303, 3) := dk_20 1 47 (dk_at dksX1_checksum_9 9 rfl rfl)
theorem dX1_checksum_224 : decode cX1_checksum 224 = .ok (.lload_n 1, 1) := dk_31 (dk_at dksX1_checksum_9 12 rfl rfl)
theorem dX1_checksum_225 : decode cX1_checksum 225 = .ok (.lmul, 1) := dk_105 (dk_at dksX1_checksum_9 13 rfl rfl)
theorem dX1_checksum_226 : decode cX1_checksum 226 = .ok (.aload 7, 2) := dk_25 7 (dk_at dksX1_checksum_9 14 rfl rfl)
theorem dX1_checksum_228 : decode cX1_checksum 228 = .ok (.getfield 228, 3) := dk_180 0 228 (dk_at dksX1_checksum_9 16 rfl rfl)
theorem dX1_checksum_231 : decode cX1_checksum 231 = .ok (.i2l, 1) := dk_133 (dk_at dksX1_checksum_9 19 rfl rfl)
theorem dX1_checksum_232 : decode cX1_checksum 232 = .ok (.ladd, 1) := dk_97 (dk_at dksX1_checksum_9 20 rfl rfl)
theorem dX1_checksum_233 : decode cX1_checksum 233 = .ok (.lstore_n 1, 1) := dk_64 (dk_at dksX1_checksum_9 21 rfl rfl)
theorem dX1_checksum_234 : decode cX1_checksum 234 = .ok (.ldc2_w 303, 3) := dk_20 1 47 (dk_at dksX1_checksum_10 0 rfl rfl)
theorem dX1_checksum_237 : decode cX1_checksum 237 = .ok (.lload_n 1, 1) := dk_31 (dk_at dksX1_checksum_10 3 rfl rfl)
theorem dX1_checksum_238 : decode cX1_checksum 238 = .ok (.lmul, 1) := dk_105 (dk_at dksX1_checksum_10 4 rfl rfl)
theorem dX1_checksum_239 : decode cX1_checksum 239 = .ok (.aload 7, 2) := dk_25 7 (dk_at dksX1_checksum_10 5 rfl rfl)
theorem dX1_checksum_241 : decode cX1_checksum 241 = .ok (.getfield 238, 3) := dk_180 0 238 (dk_at dksX1_checksum_10 7 rfl rfl)
theorem dX1_checksum_244 : decode cX1_checksum 244 = .ok (.i2l, 1) := dk_133 (dk_at dksX1_checksum_10 10 rfl rfl)
theorem dX1_checksum_245 : decode cX1_checksum 245 = .ok (.ladd, 1) := dk_97 (dk_at dksX1_checksum_10 11 rfl rfl)
theorem dX1_checksum_246 : decode cX1_checksum 246 = .ok (.lstore_n 1, 1) := dk_64 (dk_at dksX1_checksum_10 12 rfl rfl)
theorem dX1_checksum_247 : decode cX1_checksum 247 = .ok (.ldc2_w 303, 3) := dk_20 1 47 (dk_at dksX1_checksum_10 13 rfl rfl)
theorem dX1_checksum_250 : decode cX1_checksum 250 = .ok (.lload_n 1, 1) := dk_31 (dk_at dksX1_checksum_10 16 rfl rfl)
theorem dX1_checksum_251 : decode cX1_checksum 251 = .ok (.lmul, 1) := dk_105 (dk_at dksX1_checksum_10 17 rfl rfl)
theorem dX1_checksum_252 : decode cX1_checksum 252 = .ok (.aload 7, 2) := dk_25 7 (dk_at dksX1_checksum_10 18 rfl rfl)
theorem dX1_checksum_254 : decode cX1_checksum 254 = .ok (.getfield 126, 3) := dk_180 0 126 (dk_at dksX1_checksum_10 20 rfl rfl)
theorem dX1_checksum_257 : decode cX1_checksum 257 = .ok (.i2l, 1) := dk_133 (dk_at dksX1_checksum_10 23 rfl rfl)
theorem dX1_checksum_258 : decode cX1_checksum 258 = .ok (.ladd, 1) := dk_97 (dk_at dksX1_checksum_11 0 rfl rfl)
theorem dX1_checksum_259 : decode cX1_checksum 259 = .ok (.lstore_n 1, 1) := dk_64 (dk_at dksX1_checksum_11 1 rfl rfl)
theorem dX1_checksum_260 : decode cX1_checksum 260 = .ok (.ldc2_w 303, 3) := dk_20 1 47 (dk_at dksX1_checksum_11 2 rfl rfl)
theorem dX1_checksum_263 : decode cX1_checksum 263 = .ok (.lload_n 1, 1) := dk_31 (dk_at dksX1_checksum_11 5 rfl rfl)
theorem dX1_checksum_264 : decode cX1_checksum 264 = .ok (.lmul, 1) := dk_105 (dk_at dksX1_checksum_11 6 rfl rfl)
theorem dX1_checksum_265 : decode cX1_checksum 265 = .ok (.aload 7, 2) := dk_25 7 (dk_at dksX1_checksum_11 7 rfl rfl)
theorem dX1_checksum_267 : decode cX1_checksum 267 = .ok (.getfield 235, 3) := dk_180 0 235 (dk_at dksX1_checksum_11 9 rfl rfl)
theorem dX1_checksum_270 : decode cX1_checksum 270 = .ok (.i2l, 1) := dk_133 (dk_at dksX1_checksum_11 12 rfl rfl)
theorem dX1_checksum_271 : decode cX1_checksum 271 = .ok (.ladd, 1) := dk_97 (dk_at dksX1_checksum_11 13 rfl rfl)
theorem dX1_checksum_272 : decode cX1_checksum 272 = .ok (.lstore_n 1, 1) := dk_64 (dk_at dksX1_checksum_11 14 rfl rfl)
theorem dX1_checksum_273 : decode cX1_checksum 273 = .ok (.iinc 6 1, 3) := dk_132 6 1 (dk_at dksX1_checksum_11 15 rfl rfl)
theorem dX1_checksum_276 : decode cX1_checksum 276 = .ok (.goto (-88), 3) := dk_167 255 168 (dk_at dksX1_checksum_11 18 rfl rfl)
theorem dX1_checksum_279 : decode cX1_checksum 279 = .ok (.iinc 4 1, 3) := dk_132 4 1 (dk_at dksX1_checksum_11 21 rfl rfl)
theorem dX1_checksum_282 : decode cX1_checksum 282 = .ok (.goto (-190), 3) := dk_167 255 66 (dk_at dksX1_checksum_12 0 rfl rfl)
theorem dX1_checksum_285 : decode cX1_checksum 285 = .ok (.iinc 3 1, 3) := dk_132 3 1 (dk_at dksX1_checksum_12 3 rfl rfl)
theorem dX1_checksum_288 : decode cX1_checksum 288 = .ok (.goto (-204), 3) := dk_167 255 52 (dk_at dksX1_checksum_12 6 rfl rfl)
theorem dX1_checksum_291 : decode cX1_checksum 291 = .ok (.iconst 0, 1) := dk_3 (dk_at dksX1_checksum_12 9 rfl rfl)
theorem dX1_checksum_292 : decode cX1_checksum 292 = .ok (.istore_n 3, 1) := dk_62 (dk_at dksX1_checksum_12 10 rfl rfl)
theorem dX1_checksum_293 : decode cX1_checksum 293 = .ok (.iload_n 3, 1) := dk_29 (dk_at dksX1_checksum_12 11 rfl rfl)
theorem dX1_checksum_294 : decode cX1_checksum 294 = .ok (.iconst 3, 1) := dk_6 (dk_at dksX1_checksum_12 12 rfl rfl)
theorem dX1_checksum_295 : decode cX1_checksum 295 = .ok (.if_icmp .ge 84, 3) := dk_162 0 84 (dk_at dksX1_checksum_12 13 rfl rfl)
theorem dX1_checksum_298 : decode cX1_checksum 298 = .ok (.ldc2_w 303, 3) := dk_20 1 47 (dk_at dksX1_checksum_12 16 rfl rfl)
theorem dX1_checksum_301 : decode cX1_checksum 301 = .ok (.lload_n 1, 1) := dk_31 (dk_at dksX1_checksum_12 19 rfl rfl)
theorem dX1_checksum_302 : decode cX1_checksum 302 = .ok (.lmul, 1) := dk_105 (dk_at dksX1_checksum_12 20 rfl rfl)
theorem dX1_checksum_303 : decode cX1_checksum 303 = .ok (.aload_n 0, 1) := dk_42 (dk_at dksX1_checksum_12 21 rfl rfl)
theorem dX1_checksum_304 : decode cX1_checksum 304 = .ok (.getfield 35, 3) := dk_180 0 35 (dk_at dksX1_checksum_13 0 rfl rfl)
theorem dX1_checksum_307 : decode cX1_checksum 307 = .ok (.iload_n 3, 1) := dk_29 (dk_at dksX1_checksum_13 3 rfl rfl)
theorem dX1_checksum_308 : decode cX1_checksum 308 = .ok (.invokevirtual 178, 3) := dk_182 0 178 (dk_at dksX1_checksum_13 4 rfl rfl)
theorem dX1_checksum_311 : decode cX1_checksum 311 = .ok (.checkcast 28, 3) := dk_192 0 28 (dk_at dksX1_checksum_13 7 rfl rfl)
theorem dX1_checksum_314 : decode cX1_checksum 314 = .ok (.invokevirtual 174, 3) := dk_182 0 174 (dk_at dksX1_checksum_13 10 rfl rfl)
theorem dX1_checksum_317 : decode cX1_checksum 317 = .ok (.i2l, 1) := dk_133 (dk_at dksX1_checksum_13 13 rfl rfl)
theorem dX1_checksum_318 : decode cX1_checksum 318 = .ok (.ladd, 1) := dk_97 (dk_at dksX1_checksum_13 14 rfl rfl)
theorem dX1_checksum_319 : decode cX1_checksum 319 = .ok (.lstore_n 1, 1) := dk_64 (dk_at dksX1_checksum_13 15 rfl rfl)
theorem dX1_checksum_320 : decode cX1_checksum 320 = .ok (.aload_n 0, 1) := dk_42 (dk_at dksX1_checksum_13 16 rfl rfl)
theorem dX1_checksum_321 : decode cX1_checksum 321 = .ok (.getfield 35, 3) := dk_180 0 35 (dk_at dksX1_checksum_13 17 rfl rfl)
theorem dX1_checksum_324 : decode cX1_checksum 324 = .ok (.iload_n 3, 1) := dk_29 (dk_at dksX1_checksum_13 20 rfl rfl)
theorem dX1_checksum_325 : decode cX1_checksum 325 = .ok (.invokevirtual 178, 3) := dk_182 0 178 (dk_at dksX1_checksum_13 21 rfl rfl)
theorem dX1_checksum_328 : decode cX1_checksum 328 = .ok (.checkcast 28, 3) := dk_192 0 28 (dk_at dksX1_checksum_14 0 rfl rfl)
theorem dX1_checksum_331 : decode cX1_checksum 331 = .ok (.invokevirtual 284, 3) := dk_182 1 28 (dk_at dksX1_checksum_14 3 rfl rfl)
theorem dX1_checksum_334 : decode cX1_checksum 334 = .ok (.astore 4, 2) := dk_58 4 (dk_at dksX1_checksum_14 6 rfl rfl)
theorem dX1_checksum_336 : decode cX1_checksum 336 = .ok (.aload 4, 2) := dk_25 4 (dk_at dksX1_checksum_14 8 rfl rfl)
theorem dX1_checksum_338 : decode cX1_checksum 338 = .ok (.invokeinterface 288 1, 5) := by decide +kernel
theorem dX1_checksum_343 : decode cX1_checksum 343 = .ok (.ifCond .eq 30, 3) := dk_153 0 30 (dk_at dksX1_checksum_14 15 rfl rfl)
theorem dX1_checksum_346 : decode cX1_checksum 346 = .ok (.aload 4, 2) := dk_25 4 (dk_at dksX1_checksum_14 18 rfl rfl)
theorem dX1_checksum_348 : decode cX1_checksum 348 = .ok (.invokeinterface 293 1, 5) := by decide +kernel
theorem dX1_checksum_353 : decode cX1_checksum 353 = .ok (.checkcast 263, 3) := dk_192 1 7 (dk_at dksX1_checksum_15 5 rfl rfl)
theorem dX1_checksum_356 : decode cX1_checksum 356 = .ok (.astore 5, 2) := dk_58 5 (dk_at dksX1_checksum_15 8 rfl rfl)
theorem dX1_checksum_358 : decode cX1_checksum 358 = .ok (.ldc2_w 303, 3) := dk_20 1 47 (dk_at dksX1_checksum_15 10 rfl rfl)
theorem dX1_checksum_361 : decode cX1_checksum 361 = .ok (.lload_n 1, 1) := dk_31 (dk_at dksX1_checksum_15 13 rfl rfl)
theorem dX1_checksum_362 : decode cX1_checksum 362 = .ok (.lmul, 1) := dk_105 (dk_at dksX1_checksum_15 14 rfl rfl)
theorem dX1_checksum_363 : decode cX1_checksum 363 = .ok (.aload 5, 2) := dk_25 5 (dk_at dksX1_checksum_15 15 rfl rfl)
theorem dX1_checksum_365 : decode cX1_checksum 365 = .ok (.iconst 3, 1) := dk_6 (dk_at dksX1_checksum_15 17 rfl rfl)
theorem dX1_checksum_366 : decode cX1_checksum 366 = .ok (.iaload, 1) := dk_46 (dk_at dksX1_checksum_15 18 rfl rfl)
theorem dX1_checksum_367 : decode cX1_checksum 367 = .ok (.i2l, 1) := dk_133 (dk_at dksX1_checksum_15 19 rfl rfl)
theorem dX1_checksum_368 : decode cX1_checksum 368 = .ok (.ladd, 1) := dk_97 (dk_at dksX1_checksum_15 20 rfl rfl)
theorem dX1_checksum_369 : decode cX1_checksum 369 = .ok (.lstore_n 1, 1) := dk_64 (dk_at dksX1_checksum_15 21 rfl rfl)
theorem dX1_checksum_370 : decode cX1_checksum 370 = .ok (.goto (-34), 3) := dk_167 255 222 (dk_at dksX1_checksum_16 0 rfl rfl)
theorem dX1_checksum_373 : decode cX1_checksum 373 = .ok (.iinc 3 1, 3) := dk_132 3 1 (dk_at dksX1_checksum_16 3 rfl rfl)
theorem dX1_checksum_376 : decode cX1_checksum 376 = .ok (.goto (-83), 3) := dk_167 255 173 (dk_at dksX1_checksum_16 6 rfl rfl)
theorem dX1_checksum_379 : decode cX1_checksum 379 = .ok (.aload_n 0, 1) := dk_42 (dk_at dksX1_checksum_16 9 rfl rfl)
theorem dX1_checksum_380 : decode cX1_checksum 380 = .ok (.getfield 31, 3) := dk_180 0 31 (dk_at dksX1_checksum_16 10 rfl rfl)
theorem dX1_checksum_383 : decode cX1_checksum 383 = .ok (.invokevirtual 284, 3) := dk_182 1 28 (dk_at dksX1_checksum_16 13 rfl rfl)
theorem dX1_checksum_386 : decode cX1_checksum 386 = .ok (.astore_n 3, 1) := dk_78 (dk_at dksX1_checksum_16 16 rfl rfl)
theorem dX1_checksum_387 : decode cX1_checksum 387 = .ok (.aload_n 3, 1) := dk_45 (dk_at dksX1_checksum_16 17 rfl rfl)
theorem dX1_checksum_388 : decode cX1_checksum 388 = .ok (.invokeinterface 288 1, 5) := by decide +kernel
theorem dX1_checksum_393 : decode cX1_checksum 393 = .ok (.ifCond .eq 48, 3) := dk_153 0 48 (dk_at dksX1_checksum_17 0 rfl rfl)
theorem dX1_checksum_396 : decode cX1_checksum 396 = .ok (.aload_n 3, 1) := dk_45 (dk_at dksX1_checksum_17 3 rfl rfl)
theorem dX1_checksum_397 : decode cX1_checksum 397 = .ok (.invokeinterface 293 1, 5) := by decide +kernel
theorem dX1_checksum_402 : decode cX1_checksum 402 = .ok (.checkcast 162, 3) := dk_192 0 162 (dk_at dksX1_checksum_17 9 rfl rfl)
theorem dX1_checksum_405 : decode cX1_checksum 405 = .ok (.astore 4, 2) := dk_58 4 (dk_at dksX1_checksum_17 12 rfl rfl)
theorem dX1_checksum_407 : decode cX1_checksum 407 = .ok (.iconst 0, 1) := dk_3 (dk_at dksX1_checksum_17 14 rfl rfl)
theorem dX1_checksum_408 : decode cX1_checksum 408 = .ok (.istore 5, 2) := dk_54 5 (dk_at dksX1_checksum_17 15 rfl rfl)
theorem dX1_checksum_410 : decode cX1_checksum 410 = .ok (.iload 5, 2) := dk_21 5 (dk_at dksX1_checksum_17 17 rfl rfl)
theorem dX1_checksum_412 : decode cX1_checksum 412 = .ok (.bipush 9, 2) := dk_16 9 (dk_at dksX1_checksum_17 19 rfl rfl)
theorem dX1_checksum_414 : decode cX1_checksum 414 = .ok (.if_icmp .ge 24, 3) := dk_162 0 24 (dk_at dksX1_checksum_17 21 rfl rfl)
theorem dX1_checksum_417 : decode cX1_checksum 417 = .ok (.ldc2_w 303, 3) := dk_20 1 47 (dk_at dksX1_checksum_18 0 rfl rfl)
theorem dX1_checksum_420 : decode cX1_checksum 420 = .ok (.lload_n 1, 1) := dk_31 (dk_at dksX1_checksum_18 3 rfl rfl)
theorem dX1_checksum_421 : decode cX1_checksum 421 = .ok (.lmul, 1) := dk_105 (dk_at dksX1_checksum_18 4 rfl rfl)
theorem dX1_checksum_422 : decode cX1_checksum 422 = .ok (.aload 4, 2) := dk_25 4 (dk_at dksX1_checksum_18 5 rfl rfl)
theorem dX1_checksum_424 : decode cX1_checksum 424 = .ok (.iload 5, 2) := dk_21 5 (dk_at dksX1_checksum_18 7 rfl rfl)
theorem dX1_checksum_426 : decode cX1_checksum 426 = .ok (.invokevirtual 211, 3) := dk_182 0 211 (dk_at dksX1_checksum_18 9 rfl rfl)
theorem dX1_checksum_429 : decode cX1_checksum 429 = .ok (.i2l, 1) := dk_133 (dk_at dksX1_checksum_18 12 rfl rfl)
theorem dX1_checksum_430 : decode cX1_checksum 430 = .ok (.ladd, 1) := dk_97 (dk_at dksX1_checksum_18 13 rfl rfl)
theorem dX1_checksum_431 : decode cX1_checksum 431 = .ok (.lstore_n 1, 1) := dk_64 (dk_at dksX1_checksum_18 14 rfl rfl)
theorem dX1_checksum_432 : decode cX1_checksum 432 = .ok (.iinc 5 1, 3) := dk_132 5 1 (dk_at dksX1_checksum_18 15 rfl rfl)
theorem dX1_checksum_435 : decode cX1_checksum 435 = .ok (.goto (-25), 3) := dk_167 255 231 (dk_at dksX1_checksum_18 18 rfl rfl)
theorem dX1_checksum_438 : decode cX1_checksum 438 = .ok (.goto (-51), 3) := dk_167 255 205 (dk_at dksX1_checksum_18 21 rfl rfl)
theorem dX1_checksum_441 : decode cX1_checksum 441 = .ok (.aload_n 0, 1) := dk_42 (dk_at dksX1_checksum_19 0 rfl rfl)
theorem dX1_checksum_442 : decode cX1_checksum 442 = .ok (.getfield 38, 3) := dk_180 0 38 (dk_at dksX1_checksum_19 1 rfl rfl)
theorem dX1_checksum_445 : decode cX1_checksum 445 = .ok (.astore_n 3, 1) := dk_78 (dk_at dksX1_checksum_19 4 rfl rfl)
theorem dX1_checksum_446 : decode cX1_checksum 446 = .ok (.aload_n 3, 1) := dk_45 (dk_at dksX1_checksum_19 5 rfl rfl)
theorem dX1_checksum_447 : decode cX1_checksum 447 = .ok (.arraylength, 1) := dk_190 (dk_at dksX1_checksum_19 6 rfl rfl)
theorem dX1_checksum_448 : decode cX1_checksum 448 = .ok (.istore 4, 2) := dk_54 4 (dk_at dksX1_checksum_19 7 rfl rfl)
theorem dX1_checksum_450 : decode cX1_checksum 450 = .ok (.iconst 0, 1) := dk_3 (dk_at dksX1_checksum_19 9 rfl rfl)
theorem dX1_checksum_451 : decode cX1_checksum 451 = .ok (.istore 5, 2) := dk_54 5 (dk_at dksX1_checksum_19 10 rfl rfl)
theorem dX1_checksum_453 : decode cX1_checksum 453 = .ok (.iload 5, 2) := dk_21 5 (dk_at dksX1_checksum_19 12 rfl rfl)
theorem dX1_checksum_455 : decode cX1_checksum 455 = .ok (.iload 4, 2) := dk_21 4 (dk_at dksX1_checksum_19 14 rfl rfl)
theorem dX1_checksum_457 : decode cX1_checksum 457 = .ok (.if_icmp .ge 25, 3) := dk_162 0 25 (dk_at dksX1_checksum_19 16 rfl rfl)
theorem dX1_checksum_460 : decode cX1_checksum 460 = .ok (.aload_n 3, 1) := dk_45 (dk_at dksX1_checksum_19 19 rfl rfl)
theorem dX1_checksum_461 : decode cX1_checksum 461 = .ok (.iload 5, 2) := dk_21 5 (dk_at dksX1_checksum_19 20 rfl rfl)
theorem dX1_checksum_463 : decode cX1_checksum 463 = .ok (.iaload, 1) := dk_46 (dk_at dksX1_checksum_19 22 rfl rfl)
theorem dX1_checksum_464 : decode cX1_checksum 464 = .ok (.istore 6, 2) := dk_54 6 (dk_at dksX1_checksum_20 0 rfl rfl)
theorem dX1_checksum_466 : decode cX1_checksum 466 = .ok (.ldc2_w 303, 3) := dk_20 1 47 (dk_at dksX1_checksum_20 2 rfl rfl)
theorem dX1_checksum_469 : decode cX1_checksum 469 = .ok (.lload_n 1, 1) := dk_31 (dk_at dksX1_checksum_20 5 rfl rfl)
theorem dX1_checksum_470 : decode cX1_checksum 470 = .ok (.lmul, 1) := dk_105 (dk_at dksX1_checksum_20 6 rfl rfl)
theorem dX1_checksum_471 : decode cX1_checksum 471 = .ok (.iload 6, 2) := dk_21 6 (dk_at dksX1_checksum_20 7 rfl rfl)
theorem dX1_checksum_473 : decode cX1_checksum 473 = .ok (.i2l, 1) := dk_133 (dk_at dksX1_checksum_20 9 rfl rfl)
theorem dX1_checksum_474 : decode cX1_checksum 474 = .ok (.ladd, 1) := dk_97 (dk_at dksX1_checksum_20 10 rfl rfl)
theorem dX1_checksum_475 : decode cX1_checksum 475 = .ok (.lstore_n 1, 1) := dk_64 (dk_at dksX1_checksum_20 11 rfl rfl)
theorem dX1_checksum_476 : decode cX1_checksum 476 = .ok (.iinc 5 1, 3) := dk_132 5 1 (dk_at dksX1_checksum_20 12 rfl rfl)
theorem dX1_checksum_479 : decode cX1_checksum 479 = .ok (.goto (-26), 3) := dk_167 255 230 (dk_at dksX1_checksum_20 15 rfl rfl)
theorem dX1_checksum_482 : decode cX1_checksum 482 = .ok (.lload_n 1, 1) := dk_31 (dk_at dksX1_checksum_20 18 rfl rfl)
theorem dX1_checksum_483 : decode cX1_checksum 483 = .ok (.lreturn, 1) := dk_173 (dk_at dksX1_checksum_20 19 rfl rfl)
abbrev cX1_pass : ByteArray := prog_1_method_2_code
def yX1_pass : MethodName := ⟨RX1, "pass", "(I)I"⟩
def dkwX1_pass_2 : List UInt8 := [180, 0, 58, 27, 96, 181, 0, 58, 42, 180, 0, 58, 172]
abbrev dktX1_pass_2 : List UInt8 := dkwX1_pass_2 ++ []
def dkwX1_pass_1 : List UInt8 := [180, 0, 58, 27, 96, 18, 62, 164, 0, 13, 187, 0, 63, 89, 18, 65, 183, 0, 67, 191, 42, 89]
abbrev dktX1_pass_1 : List UInt8 := dkwX1_pass_1 ++ dktX1_pass_2
def dkwX1_pass_0 : List UInt8 := [27, 4, 161, 0, 9, 27, 16, 60, 164, 0, 13, 187, 0, 51, 89, 18, 53, 183, 0, 55, 191, 42]
abbrev dktX1_pass_0 : List UInt8 := dkwX1_pass_0 ++ dktX1_pass_1
theorem dksX1_pass_0 : cX1_pass.data.toList.drop 0 = dktX1_pass_0 := by decide +kernel
theorem dksX1_pass_1 : cX1_pass.data.toList.drop 22 = dktX1_pass_1 := dk_seg dksX1_pass_0 22 rfl rfl
theorem dksX1_pass_2 : cX1_pass.data.toList.drop 44 = dktX1_pass_2 := dk_seg dksX1_pass_1 22 rfl rfl
theorem dX1_pass_0 : decode cX1_pass 0 = .ok (.iload_n 1, 1) := dk_27 (dk_at dksX1_pass_0 0 rfl rfl)
theorem dX1_pass_1 : decode cX1_pass 1 = .ok (.iconst 1, 1) := dk_4 (dk_at dksX1_pass_0 1 rfl rfl)
theorem dX1_pass_2 : decode cX1_pass 2 = .ok (.if_icmp .lt 9, 3) := dk_161 0 9 (dk_at dksX1_pass_0 2 rfl rfl)
theorem dX1_pass_5 : decode cX1_pass 5 = .ok (.iload_n 1, 1) := dk_27 (dk_at dksX1_pass_0 5 rfl rfl)
theorem dX1_pass_6 : decode cX1_pass 6 = .ok (.bipush 60, 2) := dk_16 60 (dk_at dksX1_pass_0 6 rfl rfl)
theorem dX1_pass_8 : decode cX1_pass 8 = .ok (.if_icmp .le 13, 3) := dk_164 0 13 (dk_at dksX1_pass_0 8 rfl rfl)
theorem dX1_pass_11 : decode cX1_pass 11 = .ok (.new 51, 3) := dk_187 0 51 (dk_at dksX1_pass_0 11 rfl rfl)
theorem dX1_pass_14 : decode cX1_pass 14 = .ok (.dup, 1) := dk_89 (dk_at dksX1_pass_0 14 rfl rfl)
theorem dX1_pass_15 : decode cX1_pass 15 = .ok (.ldc 53, 2) := dk_18 53 (dk_at dksX1_pass_0 15 rfl rfl)
theorem dX1_pass_17 : decode cX1_pass 17 = .ok (.invokespecial 55, 3) := dk_183 0 55 (dk_at dksX1_pass_0 17 rfl rfl)
theorem dX1_pass_20 : decode cX1_pass 20 = .ok (.athrow, 1) := dk_191 (dk_at dksX1_pass_0 20 rfl rfl)
theorem dX1_pass_21 : decode cX1_pass 21 = .ok (.aload_n 0, 1) := dk_42 (dk_at dksX1_pass_0 21 rfl rfl)
theorem dX1_pass_22 : decode cX1_pass 22 = .ok (.getfield 58, 3) := dk_180 0 58 (dk_at dksX1_pass_1 0 rfl rfl)
theorem dX1_pass_25 : decode cX1_pass 25 = .ok (.iload_n 1, 1) := dk_27 (dk_at dksX1_pass_1 3 rfl rfl)
theorem dX1_pass_26 : decode cX1_pass 26 = .ok (.iadd, 1) := dk_96 (dk_at dksX1_pass_1 4 rfl rfl)
theorem dX1_pass_27 : decode cX1_pass 27 = .ok (.ldc 62, 2) := dk_18 62 (dk_at dksX1_pass_1 5 rfl rfl)
theorem dX1_pass_29 : decode cX1_pass 29 = .ok (.if_icmp .le 13, 3) := dk_164 0 13 (dk_at dksX1_pass_1 7 rfl rfl)
theorem dX1_pass_32 : decode cX1_pass 32 = .ok (.new 63, 3) := dk_187 0 63 (dk_at dksX1_pass_1 10 rfl rfl)
theorem dX1_pass_35 : decode cX1_pass 35 = .ok (.dup, 1) := dk_89 (dk_at dksX1_pass_1 13 rfl rfl)
theorem dX1_pass_36 : decode cX1_pass 36 = .ok (.ldc 65, 2) := dk_18 65 (dk_at dksX1_pass_1 14 rfl rfl)
theorem dX1_pass_38 : decode cX1_pass 38 = .ok (.invokespecial 67, 3) := dk_183 0 67 (dk_at dksX1_pass_1 16 rfl rfl)
theorem dX1_pass_41 : decode cX1_pass 41 = .ok (.athrow, 1) := dk_191 (dk_at dksX1_pass_1 19 rfl rfl)
theorem dX1_pass_42 : decode cX1_pass 42 = .ok (.aload_n 0, 1) := dk_42 (dk_at dksX1_pass_1 20 rfl rfl)
theorem dX1_pass_43 : decode cX1_pass 43 = .ok (.dup, 1) := dk_89 (dk_at dksX1_pass_1 21 rfl rfl)
theorem dX1_pass_44 : decode cX1_pass 44 = .ok (.getfield 58, 3) := dk_180 0 58 (dk_at dksX1_pass_2 0 rfl rfl)
theorem dX1_pass_47 : decode cX1_pass 47 = .ok (.iload_n 1, 1) := dk_27 (dk_at dksX1_pass_2 3 rfl rfl)
theorem dX1_pass_48 : decode cX1_pass 48 = .ok (.iadd, 1) := dk_96 (dk_at dksX1_pass_2 4 rfl rfl)
theorem dX1_pass_49 : decode cX1_pass 49 = .ok (.putfield 58, 3) := dk_181 0 58 (dk_at dksX1_pass_2 5 rfl rfl)
theorem dX1_pass_52 : decode cX1_pass 52 = .ok (.aload_n 0, 1) := dk_42 (dk_at dksX1_pass_2 8 rfl rfl)
theorem dX1_pass_53 : decode cX1_pass 53 = .ok (.getfield 58, 3) := dk_180 0 58 (dk_at dksX1_pass_2 9 rfl rfl)
theorem dX1_pass_56 : decode cX1_pass 56 = .ok (.ireturn, 1) := dk_172 (dk_at dksX1_pass_2 12 rfl rfl)
abbrev cX1_move : ByteArray := prog_1_method_3_code
def yX1_move : MethodName := ⟨RX1, "move", "(II)I"⟩
def dkwX1_move_3 : List UInt8 := [180, 0, 7, 27, 28, 79, 29, 172]
abbrev dktX1_move_3 : List UInt8 := dkwX1_move_3 ++ []
def dkwX1_move_2 : List UInt8 := [187, 0, 51, 89, 18, 71, 183, 0, 55, 191, 132, 3, 1, 167, 255, 223, 42, 180, 0, 7, 27, 46, 62, 42]
abbrev dktX1_move_2 : List UInt8 := dkwX1_move_2 ++ dktX1_move_3
def dkwX1_move_1 : List UInt8 := [191, 3, 62, 29, 6, 162, 0, 34, 29, 27, 159, 0, 23, 42, 180, 0, 7, 29, 46, 28, 160, 0, 13]
abbrev dktX1_move_1 : List UInt8 := dkwX1_move_1 ++ dktX1_move_2
def dkwX1_move_0 : List UInt8 := [27, 184, 0, 68, 28, 4, 161, 0, 9, 28, 16, 99, 164, 0, 13, 187, 0, 51, 89, 18, 71, 183, 0, 55]
abbrev dktX1_move_0 : List UInt8 := dkwX1_move_0 ++ dktX1_move_1
theorem dksX1_move_0 : cX1_move.data.toList.drop 0 = dktX1_move_0 := by decide +kernel
theorem dksX1_move_1 : cX1_move.data.toList.drop 24 = dktX1_move_1 := dk_seg dksX1_move_0 24 rfl rfl
theorem dksX1_move_2 : cX1_move.data.toList.drop 47 = dktX1_move_2 := dk_seg dksX1_move_1 23 rfl rfl
theorem dksX1_move_3 : cX1_move.data.toList.drop 71 = dktX1_move_3 := dk_seg dksX1_move_2 24 rfl rfl
theorem dX1_move_0 : decode cX1_move 0 = .ok (.iload_n 1, 1) := dk_27 (dk_at dksX1_move_0 0 rfl rfl)
theorem dX1_move_1 : decode cX1_move 1 = .ok (.invokestatic 68, 3) := dk_184 0 68 (dk_at dksX1_move_0 1 rfl rfl)
theorem dX1_move_4 : decode cX1_move 4 = .ok (.iload_n 2, 1) := dk_28 (dk_at dksX1_move_0 4 rfl rfl)
theorem dX1_move_5 : decode cX1_move 5 = .ok (.iconst 1, 1) := dk_4 (dk_at dksX1_move_0 5 rfl rfl)
theorem dX1_move_6 : decode cX1_move 6 = .ok (.if_icmp .lt 9, 3) := dk_161 0 9 (dk_at dksX1_move_0 6 rfl rfl)
theorem dX1_move_9 : decode cX1_move 9 = .ok (.iload_n 2, 1) := dk_28 (dk_at dksX1_move_0 9 rfl rfl)
theorem dX1_move_10 : decode cX1_move 10 = .ok (.bipush 99, 2) := dk_16 99 (dk_at dksX1_move_0 10 rfl rfl)
theorem dX1_move_12 : decode cX1_move 12 = .ok (.if_icmp .le 13, 3) := dk_164 0 13 (dk_at dksX1_move_0 12 rfl rfl)
theorem dX1_move_15 : decode cX1_move 15 = .ok (.new 51, 3) := dk_187 0 51 (dk_at dksX1_move_0 15 rfl rfl)
theorem dX1_move_18 : decode cX1_move 18 = .ok (.dup, 1) := dk_89 (dk_at dksX1_move_0 18 rfl rfl)
theorem dX1_move_19 : decode cX1_move 19 = .ok (.ldc 71, 2) := dk_18 71 (dk_at dksX1_move_0 19 rfl rfl)
theorem dX1_move_21 : decode cX1_move 21 = .ok (.invokespecial 55, 3) := dk_183 0 55 (dk_at dksX1_move_0 21 rfl rfl)
theorem dX1_move_24 : decode cX1_move 24 = .ok (.athrow, 1) := dk_191 (dk_at dksX1_move_1 0 rfl rfl)
theorem dX1_move_25 : decode cX1_move 25 = .ok (.iconst 0, 1) := dk_3 (dk_at dksX1_move_1 1 rfl rfl)
theorem dX1_move_26 : decode cX1_move 26 = .ok (.istore_n 3, 1) := dk_62 (dk_at dksX1_move_1 2 rfl rfl)
theorem dX1_move_27 : decode cX1_move 27 = .ok (.iload_n 3, 1) := dk_29 (dk_at dksX1_move_1 3 rfl rfl)
theorem dX1_move_28 : decode cX1_move 28 = .ok (.iconst 3, 1) := dk_6 (dk_at dksX1_move_1 4 rfl rfl)
theorem dX1_move_29 : decode cX1_move 29 = .ok (.if_icmp .ge 34, 3) := dk_162 0 34 (dk_at dksX1_move_1 5 rfl rfl)
theorem dX1_move_32 : decode cX1_move 32 = .ok (.iload_n 3, 1) := dk_29 (dk_at dksX1_move_1 8 rfl rfl)
theorem dX1_move_33 : decode cX1_move 33 = .ok (.iload_n 1, 1) := dk_27 (dk_at dksX1_move_1 9 rfl rfl)
theorem dX1_move_34 : decode cX1_move 34 = .ok (.if_icmp .eq 23, 3) := dk_159 0 23 (dk_at dksX1_move_1 10 rfl rfl)
theorem dX1_move_37 : decode cX1_move 37 = .ok (.aload_n 0, 1) := dk_42 (dk_at dksX1_move_1 13 rfl rfl)
theorem dX1_move_38 : decode cX1_move 38 = .ok (.getfield 7, 3) := dk_180 0 7 (dk_at dksX1_move_1 14 rfl rfl)
theorem dX1_move_41 : decode cX1_move 41 = .ok (.iload_n 3, 1) := dk_29 (dk_at dksX1_move_1 17 rfl rfl)
theorem dX1_move_42 : decode cX1_move 42 = .ok (.iaload, 1) := dk_46 (dk_at dksX1_move_1 18 rfl rfl)
theorem dX1_move_43 : decode cX1_move 43 = .ok (.iload_n 2, 1) := dk_28 (dk_at dksX1_move_1 19 rfl rfl)
theorem dX1_move_44 : decode cX1_move 44 = .ok (.if_icmp .ne 13, 3) := dk_160 0 13 (dk_at dksX1_move_1 20 rfl rfl)
theorem dX1_move_47 : decode cX1_move 47 = .ok (.new 51, 3) := dk_187 0 51 (dk_at dksX1_move_2 0 rfl rfl)
theorem dX1_move_50 : decode cX1_move 50 = .ok (.dup, 1) := dk_89 (dk_at dksX1_move_2 3 rfl rfl)
theorem dX1_move_51 : decode cX1_move 51 = .ok (.ldc 71, 2) := dk_18 71 (dk_at dksX1_move_2 4 rfl rfl)
theorem dX1_move_53 : decode cX1_move 53 = .ok (.invokespecial 55, 3) := dk_183 0 55 (dk_at dksX1_move_2 6 rfl rfl)
theorem dX1_move_56 : decode cX1_move 56 = .ok (.athrow, 1) := dk_191 (dk_at dksX1_move_2 9 rfl rfl)
theorem dX1_move_57 : decode cX1_move 57 = .ok (.iinc 3 1, 3) := dk_132 3 1 (dk_at dksX1_move_2 10 rfl rfl)
theorem dX1_move_60 : decode cX1_move 60 = .ok (.goto (-33), 3) := dk_167 255 223 (dk_at dksX1_move_2 13 rfl rfl)
theorem dX1_move_63 : decode cX1_move 63 = .ok (.aload_n 0, 1) := dk_42 (dk_at dksX1_move_2 16 rfl rfl)
theorem dX1_move_64 : decode cX1_move 64 = .ok (.getfield 7, 3) := dk_180 0 7 (dk_at dksX1_move_2 17 rfl rfl)
theorem dX1_move_67 : decode cX1_move 67 = .ok (.iload_n 1, 1) := dk_27 (dk_at dksX1_move_2 20 rfl rfl)
theorem dX1_move_68 : decode cX1_move 68 = .ok (.iaload, 1) := dk_46 (dk_at dksX1_move_2 21 rfl rfl)
theorem dX1_move_69 : decode cX1_move 69 = .ok (.istore_n 3, 1) := dk_62 (dk_at dksX1_move_2 22 rfl rfl)
theorem dX1_move_70 : decode cX1_move 70 = .ok (.aload_n 0, 1) := dk_42 (dk_at dksX1_move_2 23 rfl rfl)
theorem dX1_move_71 : decode cX1_move 71 = .ok (.getfield 7, 3) := dk_180 0 7 (dk_at dksX1_move_3 0 rfl rfl)
theorem dX1_move_74 : decode cX1_move 74 = .ok (.iload_n 1, 1) := dk_27 (dk_at dksX1_move_3 3 rfl rfl)
theorem dX1_move_75 : decode cX1_move 75 = .ok (.iload_n 2, 1) := dk_28 (dk_at dksX1_move_3 4 rfl rfl)
theorem dX1_move_76 : decode cX1_move 76 = .ok (.iastore, 1) := dk_79 (dk_at dksX1_move_3 5 rfl rfl)
theorem dX1_move_77 : decode cX1_move 77 = .ok (.iload_n 3, 1) := dk_29 (dk_at dksX1_move_3 6 rfl rfl)
theorem dX1_move_78 : decode cX1_move 78 = .ok (.ireturn, 1) := dk_172 (dk_at dksX1_move_3 7 rfl rfl)
abbrev cX1_checkEnd : ByteArray := prog_1_method_63_code
def yX1_checkEnd : MethodName := ⟨RX1, "checkEnd", "(I)V"⟩
def dkwX1_checkEnd_0 : List UInt8 := [26, 155, 0, 8, 26, 6, 161, 0, 14, 187, 1, 3, 89, 19, 1, 149, 183, 1, 6, 191, 177]
abbrev dktX1_checkEnd_0 : List UInt8 := dkwX1_checkEnd_0 ++ []
theorem dksX1_checkEnd_0 : cX1_checkEnd.data.toList.drop 0 = dktX1_checkEnd_0 := by decide +kernel
theorem dX1_checkEnd_0 : decode cX1_checkEnd 0 = .ok (.iload_n 0, 1) := dk_26 (dk_at dksX1_checkEnd_0 0 rfl rfl)
theorem dX1_checkEnd_1 : decode cX1_checkEnd 1 = .ok (.ifCond .lt 8, 3) := dk_155 0 8 (dk_at dksX1_checkEnd_0 1 rfl rfl)
theorem dX1_checkEnd_4 : decode cX1_checkEnd 4 = .ok (.iload_n 0, 1) := dk_26 (dk_at dksX1_checkEnd_0 4 rfl rfl)
theorem dX1_checkEnd_5 : decode cX1_checkEnd 5 = .ok (.iconst 3, 1) := dk_6 (dk_at dksX1_checkEnd_0 5 rfl rfl)
theorem dX1_checkEnd_6 : decode cX1_checkEnd 6 = .ok (.if_icmp .lt 14, 3) := dk_161 0 14 (dk_at dksX1_checkEnd_0 6 rfl rfl)
theorem dX1_checkEnd_9 : decode cX1_checkEnd 9 = .ok (.new 259, 3) := dk_187 1 3 (dk_at dksX1_checkEnd_0 9 rfl rfl)
theorem dX1_checkEnd_12 : decode cX1_checkEnd 12 = .ok (.dup, 1) := dk_89 (dk_at dksX1_checkEnd_0 12 rfl rfl)
theorem dX1_checkEnd_13 : decode cX1_checkEnd 13 = .ok (.ldc_w 405, 3) := dk_19 1 149 (dk_at dksX1_checkEnd_0 13 rfl rfl)
theorem dX1_checkEnd_16 : decode cX1_checkEnd 16 = .ok (.invokespecial 262, 3) := dk_183 1 6 (dk_at dksX1_checkEnd_0 16 rfl rfl)
theorem dX1_checkEnd_19 : decode cX1_checkEnd 19 = .ok (.athrow, 1) := dk_191 (dk_at dksX1_checkEnd_0 19 rfl rfl)
theorem dX1_checkEnd_20 : decode cX1_checkEnd 20 = .ok (.return_, 1) := dk_177 (dk_at dksX1_checkEnd_0 20 rfl rfl)
abbrev cX1_load : ByteArray := prog_1_method_4_code
def yX1_load : MethodName := ⟨RX1, "load", "(IZ)Z"⟩
def dkwX1_load_0 : List UInt8 := [27, 184, 0, 68, 42, 180, 0, 13, 27, 51, 62, 42, 180, 0, 13, 27, 28, 84, 29, 172]
abbrev dktX1_load_0 : List UInt8 := dkwX1_load_0 ++ []
theorem dksX1_load_0 : cX1_load.data.toList.drop 0 = dktX1_load_0 := by decide +kernel
theorem dX1_load_0 : decode cX1_load 0 = .ok (.iload_n 1, 1) := dk_27 (dk_at dksX1_load_0 0 rfl rfl)
theorem dX1_load_1 : decode cX1_load 1 = .ok (.invokestatic 68, 3) := dk_184 0 68 (dk_at dksX1_load_0 1 rfl rfl)
theorem dX1_load_4 : decode cX1_load 4 = .ok (.aload_n 0, 1) := dk_42 (dk_at dksX1_load_0 4 rfl rfl)
theorem dX1_load_5 : decode cX1_load 5 = .ok (.getfield 13, 3) := dk_180 0 13 (dk_at dksX1_load_0 5 rfl rfl)
theorem dX1_load_8 : decode cX1_load 8 = .ok (.iload_n 1, 1) := dk_27 (dk_at dksX1_load_0 8 rfl rfl)
theorem dX1_load_9 : decode cX1_load 9 = .ok (.baload, 1) := dk_51 (dk_at dksX1_load_0 9 rfl rfl)
theorem dX1_load_10 : decode cX1_load 10 = .ok (.istore_n 3, 1) := dk_62 (dk_at dksX1_load_0 10 rfl rfl)
theorem dX1_load_11 : decode cX1_load 11 = .ok (.aload_n 0, 1) := dk_42 (dk_at dksX1_load_0 11 rfl rfl)
theorem dX1_load_12 : decode cX1_load 12 = .ok (.getfield 13, 3) := dk_180 0 13 (dk_at dksX1_load_0 12 rfl rfl)
theorem dX1_load_15 : decode cX1_load 15 = .ok (.iload_n 1, 1) := dk_27 (dk_at dksX1_load_0 15 rfl rfl)
theorem dX1_load_16 : decode cX1_load 16 = .ok (.iload_n 2, 1) := dk_28 (dk_at dksX1_load_0 16 rfl rfl)
theorem dX1_load_17 : decode cX1_load 17 = .ok (.bastore, 1) := dk_84 (dk_at dksX1_load_0 17 rfl rfl)
theorem dX1_load_18 : decode cX1_load 18 = .ok (.iload_n 3, 1) := dk_29 (dk_at dksX1_load_0 18 rfl rfl)
theorem dX1_load_19 : decode cX1_load 19 = .ok (.ireturn, 1) := dk_172 (dk_at dksX1_load_0 19 rfl rfl)
abbrev cX1_allow : ByteArray := prog_1_method_5_code
def yX1_allow : MethodName := ⟨RX1, "allow", "(IIII)I"⟩
def dkwX1_allow_6 : List UInt8 := [160, 0, 14, 25, 6, 89, 180, 0, 82, 4, 96, 181, 0, 82, 25, 6, 180, 0, 82, 172]
abbrev dktX1_allow_6 : List UInt8 := dkwX1_allow_6 ++ []
def dkwX1_allow_5 : List UInt8 := [180, 0, 90, 21, 7, 21, 4, 79, 25, 6, 180, 0, 93, 21, 7, 28, 79, 21, 7, 25, 6, 180, 0, 82]
abbrev dktX1_allow_5 : List UInt8 := dkwX1_allow_5 ++ dktX1_allow_6
def dkwX1_allow_4 : List UInt8 := [187, 0, 63, 89, 18, 85, 183, 0, 67, 191, 25, 6, 180, 0, 87, 21, 7, 21, 5, 79, 25, 6]
abbrev dktX1_allow_4 : List UInt8 := dkwX1_allow_4 ++ dktX1_allow_5
def dkwX1_allow_3 : List UInt8 := [54, 7, 21, 7, 25, 6, 180, 0, 82, 160, 0, 23, 25, 6, 180, 0, 82, 16, 8, 160, 0, 13]
abbrev dktX1_allow_3 : List UInt8 := dkwX1_allow_3 ++ dktX1_allow_4
def dkwX1_allow_2 : List UInt8 := [21, 4, 184, 0, 75, 54, 5, 42, 180, 0, 19, 27, 50, 58, 6, 25, 6, 21, 5, 21, 4, 182, 0, 79]
abbrev dktX1_allow_2 : List UInt8 := dkwX1_allow_2 ++ dktX1_allow_3
def dkwX1_allow_1 : List UInt8 := [21, 4, 155, 0, 10, 21, 4, 16, 8, 164, 0, 13, 187, 0, 51, 89, 18, 73, 183, 0, 55, 191, 29]
abbrev dktX1_allow_1 : List UInt8 := dkwX1_allow_1 ++ dktX1_allow_2
def dkwX1_allow_0 : List UInt8 := [27, 184, 0, 68, 28, 184, 0, 68, 28, 27, 159, 0, 26, 29, 155, 0, 22, 29, 17, 0, 255, 163, 0, 15]
abbrev dktX1_allow_0 : List UInt8 := dkwX1_allow_0 ++ dktX1_allow_1
theorem dksX1_allow_0 : cX1_allow.data.toList.drop 0 = dktX1_allow_0 := by decide +kernel
theorem dksX1_allow_1 : cX1_allow.data.toList.drop 24 = dktX1_allow_1 := dk_seg dksX1_allow_0 24 rfl rfl
theorem dksX1_allow_2 : cX1_allow.data.toList.drop 47 = dktX1_allow_2 := dk_seg dksX1_allow_1 23 rfl rfl
theorem dksX1_allow_3 : cX1_allow.data.toList.drop 71 = dktX1_allow_3 := dk_seg dksX1_allow_2 24 rfl rfl
theorem dksX1_allow_4 : cX1_allow.data.toList.drop 93 = dktX1_allow_4 := dk_seg dksX1_allow_3 22 rfl rfl
theorem dksX1_allow_5 : cX1_allow.data.toList.drop 115 = dktX1_allow_5 := dk_seg dksX1_allow_4 22 rfl rfl
theorem dksX1_allow_6 : cX1_allow.data.toList.drop 139 = dktX1_allow_6 := dk_seg dksX1_allow_5 24 rfl rfl
theorem dX1_allow_0 : decode cX1_allow 0 = .ok (.iload_n 1, 1) := dk_27 (dk_at dksX1_allow_0 0 rfl rfl)
theorem dX1_allow_1 : decode cX1_allow 1 = .ok (.invokestatic 68, 3) := dk_184 0 68 (dk_at dksX1_allow_0 1 rfl rfl)
theorem dX1_allow_4 : decode cX1_allow 4 = .ok (.iload_n 2, 1) := dk_28 (dk_at dksX1_allow_0 4 rfl rfl)
theorem dX1_allow_5 : decode cX1_allow 5 = .ok (.invokestatic 68, 3) := dk_184 0 68 (dk_at dksX1_allow_0 5 rfl rfl)
theorem dX1_allow_8 : decode cX1_allow 8 = .ok (.iload_n 2, 1) := dk_28 (dk_at dksX1_allow_0 8 rfl rfl)
theorem dX1_allow_9 : decode cX1_allow 9 = .ok (.iload_n 1, 1) := dk_27 (dk_at dksX1_allow_0 9 rfl rfl)
theorem dX1_allow_10 : decode cX1_allow 10 = .ok (.if_icmp .eq 26, 3) := dk_159 0 26 (dk_at dksX1_allow_0 10 rfl rfl)
theorem dX1_allow_13 : decode cX1_allow 13 = .ok (.iload_n 3, 1) := dk_29 (dk_at dksX1_allow_0 13 rfl rfl)
theorem dX1_allow_14 : decode cX1_allow 14 = .ok (.ifCond .lt 22, 3) := dk_155 0 22 (dk_at dksX1_allow_0 14 rfl rfl)
theorem dX1_allow_17 : decode cX1_allow 17 = .ok (.iload_n 3, 1) := dk_29 (dk_at dksX1_allow_0 17 rfl rfl)
theorem dX1_allow_18 : decode cX1_allow 18 = .ok (.sipush 255, 3) := dk_17 0 255 (dk_at dksX1_allow_0 18 rfl rfl)
theorem dX1_allow_21 : decode cX1_allow 21 = .ok (.if_icmp .gt 15, 3) := dk_163 0 15 (dk_at dksX1_allow_0 21 rfl rfl)
theorem dX1_allow_24 : decode cX1_allow 24 = .ok (.iload 4, 2) := dk_21 4 (dk_at dksX1_allow_1 0 rfl rfl)
theorem dX1_allow_26 : decode cX1_allow 26 = .ok (.ifCond .lt 10, 3) := dk_155 0 10 (dk_at dksX1_allow_1 2 rfl rfl)
theorem dX1_allow_29 : decode cX1_allow 29 = .ok (.iload 4, 2) := dk_21 4 (dk_at dksX1_allow_1 5 rfl rfl)
theorem dX1_allow_31 : decode cX1_allow 31 = .ok (.bipush 8, 2) := dk_16 8 (dk_at dksX1_allow_1 7 rfl rfl)
theorem dX1_allow_33 : decode cX1_allow 33 = .ok (.if_icmp .le 13, 3) := dk_164 0 13 (dk_at dksX1_allow_1 9 rfl rfl)
theorem dX1_allow_36 : decode cX1_allow 36 = .ok (.new 51, 3) := dk_187 0 51 (dk_at dksX1_allow_1 12 rfl rfl)
theorem dX1_allow_39 : decode cX1_allow 39 = .ok (.dup, 1) := dk_89 (dk_at dksX1_allow_1 15 rfl rfl)
theorem dX1_allow_40 : decode cX1_allow 40 = .ok (.ldc 73, 2) := dk_18 73 (dk_at dksX1_allow_1 16 rfl rfl)
theorem dX1_allow_42 : decode cX1_allow 42 = .ok (.invokespecial 55, 3) := dk_183 0 55 (dk_at dksX1_allow_1 18 rfl rfl)
theorem dX1_allow_45 : decode cX1_allow 45 = .ok (.athrow, 1) := dk_191 (dk_at dksX1_allow_1 21 rfl rfl)
theorem dX1_allow_46 : decode cX1_allow 46 = .ok (.iload_n 3, 1) := dk_29 (dk_at dksX1_allow_1 22 rfl rfl)
theorem dX1_allow_47 : decode cX1_allow 47 = .ok (.iload 4, 2) := dk_21 4 (dk_at dksX1_allow_2 0 rfl rfl)
theorem dX1_allow_49 : decode cX1_allow 49 = .ok (.invokestatic 75, 3) := dk_184 0 75 (dk_at dksX1_allow_2 2 rfl rfl)
theorem dX1_allow_52 : decode cX1_allow 52 = .ok (.istore 5, 2) := dk_54 5 (dk_at dksX1_allow_2 5 rfl rfl)
theorem dX1_allow_54 : decode cX1_allow 54 = .ok (.aload_n 0, 1) := dk_42 (dk_at dksX1_allow_2 7 rfl rfl)
theorem dX1_allow_55 : decode cX1_allow 55 = .ok (.getfield 19, 3) := dk_180 0 19 (dk_at dksX1_allow_2 8 rfl rfl)
theorem dX1_allow_58 : decode cX1_allow 58 = .ok (.iload_n 1, 1) := dk_27 (dk_at dksX1_allow_2 11 rfl rfl)
theorem dX1_allow_59 : decode cX1_allow 59 = .ok (.aaload, 1) := dk_50 (dk_at dksX1_allow_2 12 rfl rfl)
theorem dX1_allow_60 : decode cX1_allow 60 = .ok (.astore 6, 2) := dk_58 6 (dk_at dksX1_allow_2 13 rfl rfl)
theorem dX1_allow_62 : decode cX1_allow 62 = .ok (.aload 6, 2) := dk_25 6 (dk_at dksX1_allow_2 15 rfl rfl)
theorem dX1_allow_64 : decode cX1_allow 64 = .ok (.iload 5, 2) := dk_21 5 (dk_at dksX1_allow_2 17 rfl rfl)
theorem dX1_allow_66 : decode cX1_allow 66 = .ok (.iload 4, 2) := dk_21 4 (dk_at dksX1_allow_2 19 rfl rfl)
theorem dX1_allow_68 : decode cX1_allow 68 = .ok (.invokevirtual 79, 3) := dk_182 0 79 (dk_at dksX1_allow_2 21 rfl rfl)
theorem dX1_allow_71 : decode cX1_allow 71 = .ok (.istore 7, 2) := dk_54 7 (dk_at dksX1_allow_3 0 rfl rfl)
theorem dX1_allow_73 : decode cX1_allow 73 = .ok (.iload 7, 2) := dk_21 7 (dk_at dksX1_allow_3 2 rfl rfl)
theorem dX1_allow_75 : decode cX1_allow 75 = .ok (.aload 6, 2) := dk_25 6 (dk_at dksX1_allow_3 4 rfl rfl)
theorem dX1_allow_77 : decode cX1_allow 77 = .ok (.getfield 82, 3) := dk_180 0 82 (dk_at dksX1_allow_3 6 rfl rfl)
theorem dX1_allow_80 : decode cX1_allow 80 = .ok (.if_icmp .ne 23, 3) := dk_160 0 23 (dk_at dksX1_allow_3 9 rfl rfl)
theorem dX1_allow_83 : decode cX1_allow 83 = .ok (.aload 6, 2) := dk_25 6 (dk_at dksX1_allow_3 12 rfl rfl)
theorem dX1_allow_85 : decode cX1_allow 85 = .ok (.getfield 82, 3) := dk_180 0 82 (dk_at dksX1_allow_3 14 rfl rfl)
theorem dX1_allow_88 : decode cX1_allow 88 = .ok (.bipush 8, 2) := dk_16 8 (dk_at dksX1_allow_3 17 rfl rfl)
theorem dX1_allow_90 : decode cX1_allow 90 = .ok (.if_icmp .ne 13, 3) := dk_160 0 13 (dk_at dksX1_allow_3 19 rfl rfl)
theorem dX1_allow_93 : decode cX1_allow 93 = .ok (.new 63, 3) := dk_187 0 63 (dk_at dksX1_allow_4 0 rfl rfl)
theorem dX1_allow_96 : decode cX1_allow 96 = .ok (.dup, 1) := dk_89 (dk_at dksX1_allow_4 3 rfl rfl)
theorem dX1_allow_97 : decode cX1_allow 97 = .ok (.ldc 85, 2) := dk_18 85 (dk_at dksX1_allow_4 4 rfl rfl)
theorem dX1_allow_99 : decode cX1_allow 99 = .ok (.invokespecial 67, 3) := dk_183 0 67 (dk_at dksX1_allow_4 6 rfl rfl)
theorem dX1_allow_102 : decode cX1_allow 102 = .ok (.athrow, 1) := dk_191 (dk_at dksX1_allow_4 9 rfl rfl)
theorem dX1_allow_103 : decode cX1_allow 103 = .ok (.aload 6, 2) := dk_25 6 (dk_at dksX1_allow_4 10 rfl rfl)
theorem dX1_allow_105 : decode cX1_allow 105 = .ok (.getfield 87, 3) := dk_180 0 87 (dk_at dksX1_allow_4 12 rfl rfl)
theorem dX1_allow_108 : decode cX1_allow 108 = .ok (.iload 7, 2) := dk_21 7 (dk_at dksX1_allow_4 15 rfl rfl)
theorem dX1_allow_110 : decode cX1_allow 110 = .ok (.iload 5, 2) := dk_21 5 (dk_at dksX1_allow_4 17 rfl rfl)
theorem dX1_allow_112 : decode cX1_allow 112 = .ok (.iastore, 1) := dk_79 (dk_at dksX1_allow_4 19 rfl rfl)
theorem dX1_allow_113 : decode cX1_allow 113 = .ok (.aload 6, 2) := dk_25 6 (dk_at dksX1_allow_4 20 rfl rfl)
theorem dX1_allow_115 : decode cX1_allow 115 = .ok (.getfield 90, 3) := dk_180 0 90 (dk_at dksX1_allow_5 0 rfl rfl)
theorem dX1_allow_118 : decode cX1_allow 118 = .ok (.iload 7, 2) := dk_21 7 (dk_at dksX1_allow_5 3 rfl rfl)
theorem dX1_allow_120 : decode cX1_allow 120 = .ok (.iload 4, 2) := dk_21 4 (dk_at dksX1_allow_5 5 rfl rfl)
theorem dX1_allow_122 : decode cX1_allow 122 = .ok (.iastore, 1) := dk_79 (dk_at dksX1_allow_5 7 rfl rfl)
theorem dX1_allow_123 : decode cX1_allow 123 = .ok (.aload 6, 2) := dk_25 6 (dk_at dksX1_allow_5 8 rfl rfl)
theorem dX1_allow_125 : decode cX1_allow 125 = .ok (.getfield 93, 3) := dk_180 0 93 (dk_at dksX1_allow_5 10 rfl rfl)
theorem dX1_allow_128 : decode cX1_allow 128 = .ok (.iload 7, 2) := dk_21 7 (dk_at dksX1_allow_5 13 rfl rfl)
theorem dX1_allow_130 : decode cX1_allow 130 = .ok (.iload_n 2, 1) := dk_28 (dk_at dksX1_allow_5 15 rfl rfl)
theorem dX1_allow_131 : decode cX1_allow 131 = .ok (.iastore, 1) := dk_79 (dk_at dksX1_allow_5 16 rfl rfl)
theorem dX1_allow_132 : decode cX1_allow 132 = .ok (.iload 7, 2) := dk_21 7 (dk_at dksX1_allow_5 17 rfl rfl)
theorem dX1_allow_134 : decode cX1_allow 134 = .ok (.aload 6, 2) := dk_25 6 (dk_at dksX1_allow_5 19 rfl rfl)
theorem dX1_allow_136 : decode cX1_allow 136 = .ok (.getfield 82, 3) := dk_180 0 82 (dk_at dksX1_allow_5 21 rfl rfl)
theorem dX1_allow_139 : decode cX1_allow 139 = .ok (.if_icmp .ne 14, 3) := dk_160 0 14 (dk_at dksX1_allow_6 0 rfl rfl)
theorem dX1_allow_142 : decode cX1_allow 142 = .ok (.aload 6, 2) := dk_25 6 (dk_at dksX1_allow_6 3 rfl rfl)
theorem dX1_allow_144 : decode cX1_allow 144 = .ok (.dup, 1) := dk_89 (dk_at dksX1_allow_6 5 rfl rfl)
theorem dX1_allow_145 : decode cX1_allow 145 = .ok (.getfield 82, 3) := dk_180 0 82 (dk_at dksX1_allow_6 6 rfl rfl)
theorem dX1_allow_148 : decode cX1_allow 148 = .ok (.iconst 1, 1) := dk_4 (dk_at dksX1_allow_6 9 rfl rfl)
theorem dX1_allow_149 : decode cX1_allow 149 = .ok (.iadd, 1) := dk_96 (dk_at dksX1_allow_6 10 rfl rfl)
theorem dX1_allow_150 : decode cX1_allow 150 = .ok (.putfield 82, 3) := dk_181 0 82 (dk_at dksX1_allow_6 11 rfl rfl)
theorem dX1_allow_153 : decode cX1_allow 153 = .ok (.aload 6, 2) := dk_25 6 (dk_at dksX1_allow_6 14 rfl rfl)
theorem dX1_allow_155 : decode cX1_allow 155 = .ok (.getfield 82, 3) := dk_180 0 82 (dk_at dksX1_allow_6 16 rfl rfl)
theorem dX1_allow_158 : decode cX1_allow 158 = .ok (.ireturn, 1) := dk_172 (dk_at dksX1_allow_6 19 rfl rfl)
abbrev cX1_cut : ByteArray := prog_1_method_62_code
def yX1_cut : MethodName := ⟨RX1, "cut", "(II)I"⟩
def dkwX1_cut_0 : List UInt8 := [27, 154, 0, 7, 3, 167, 0, 14, 26, 16, 8, 27, 100, 122, 16, 8, 27, 100, 120, 172]
abbrev dktX1_cut_0 : List UInt8 := dkwX1_cut_0 ++ []
theorem dksX1_cut_0 : cX1_cut.data.toList.drop 0 = dktX1_cut_0 := by decide +kernel
theorem dX1_cut_0 : decode cX1_cut 0 = .ok (.iload_n 1, 1) := dk_27 (dk_at dksX1_cut_0 0 rfl rfl)
theorem dX1_cut_1 : decode cX1_cut 1 = .ok (.ifCond .ne 7, 3) := dk_154 0 7 (dk_at dksX1_cut_0 1 rfl rfl)
theorem dX1_cut_4 : decode cX1_cut 4 = .ok (.iconst 0, 1) := dk_3 (dk_at dksX1_cut_0 4 rfl rfl)
theorem dX1_cut_5 : decode cX1_cut 5 = .ok (.goto 14, 3) := dk_167 0 14 (dk_at dksX1_cut_0 5 rfl rfl)
theorem dX1_cut_8 : decode cX1_cut 8 = .ok (.iload_n 0, 1) := dk_26 (dk_at dksX1_cut_0 8 rfl rfl)
theorem dX1_cut_9 : decode cX1_cut 9 = .ok (.bipush 8, 2) := dk_16 8 (dk_at dksX1_cut_0 9 rfl rfl)
theorem dX1_cut_11 : decode cX1_cut 11 = .ok (.iload_n 1, 1) := dk_27 (dk_at dksX1_cut_0 11 rfl rfl)
theorem dX1_cut_12 : decode cX1_cut 12 = .ok (.isub, 1) := dk_100 (dk_at dksX1_cut_0 12 rfl rfl)
theorem dX1_cut_13 : decode cX1_cut 13 = .ok (.ishr, 1) := dk_122 (dk_at dksX1_cut_0 13 rfl rfl)
theorem dX1_cut_14 : decode cX1_cut 14 = .ok (.bipush 8, 2) := dk_16 8 (dk_at dksX1_cut_0 14 rfl rfl)
theorem dX1_cut_16 : decode cX1_cut 16 = .ok (.iload_n 1, 1) := dk_27 (dk_at dksX1_cut_0 16 rfl rfl)
theorem dX1_cut_17 : decode cX1_cut 17 = .ok (.isub, 1) := dk_100 (dk_at dksX1_cut_0 17 rfl rfl)
theorem dX1_cut_18 : decode cX1_cut 18 = .ok (.ishl, 1) := dk_120 (dk_at dksX1_cut_0 18 rfl rfl)
theorem dX1_cut_19 : decode cX1_cut 19 = .ok (.ireturn, 1) := dk_172 (dk_at dksX1_cut_0 19 rfl rfl)
abbrev cX1_forbid : ByteArray := prog_1_method_6_code
def yX1_forbid : MethodName := ⟨RX1, "forbid", "(III)I"⟩
def dkwX1_forbid_7 : List UInt8 := [180, 0, 82, 172]
abbrev dktX1_forbid_7 : List UInt8 := dkwX1_forbid_7 ++ []
def dkwX1_forbid_6 : List UInt8 := [180, 0, 93, 21, 6, 25, 4, 180, 0, 93, 21, 6, 4, 96, 46, 79, 132, 6, 1, 167, 255, 189, 25, 4]
abbrev dktX1_forbid_6 : List UInt8 := dkwX1_forbid_6 ++ dktX1_forbid_7
def dkwX1_forbid_5 : List UInt8 := [46, 79, 25, 4, 180, 0, 90, 21, 6, 25, 4, 180, 0, 90, 21, 6, 4, 96, 46, 79, 25, 4]
abbrev dktX1_forbid_5 : List UInt8 := dkwX1_forbid_5 ++ dktX1_forbid_6
def dkwX1_forbid_4 : List UInt8 := [25, 4, 180, 0, 82, 162, 0, 63, 25, 4, 180, 0, 87, 21, 6, 25, 4, 180, 0, 87, 21, 6, 4, 96]
abbrev dktX1_forbid_4 : List UInt8 := dkwX1_forbid_4 ++ dktX1_forbid_5
def dkwX1_forbid_3 : List UInt8 := [18, 73, 183, 0, 98, 191, 25, 4, 89, 180, 0, 82, 4, 100, 181, 0, 82, 21, 5, 54, 6, 21, 6]
abbrev dktX1_forbid_3 : List UInt8 := dkwX1_forbid_3 ++ dktX1_forbid_4
def dkwX1_forbid_2 : List UInt8 := [29, 184, 0, 75, 29, 182, 0, 79, 54, 5, 21, 5, 25, 4, 180, 0, 82, 160, 0, 13, 187, 0, 96, 89]
abbrev dktX1_forbid_2 : List UInt8 := dkwX1_forbid_2 ++ dktX1_forbid_3
def dkwX1_forbid_1 : List UInt8 := [164, 0, 13, 187, 0, 51, 89, 18, 73, 183, 0, 55, 191, 42, 180, 0, 19, 27, 50, 58, 4, 25, 4, 28]
abbrev dktX1_forbid_1 : List UInt8 := dkwX1_forbid_1 ++ dktX1_forbid_2
def dkwX1_forbid_0 : List UInt8 := [27, 184, 0, 68, 28, 155, 0, 20, 28, 17, 0, 255, 163, 0, 13, 29, 155, 0, 9, 29, 16, 8]
abbrev dktX1_forbid_0 : List UInt8 := dkwX1_forbid_0 ++ dktX1_forbid_1
theorem dksX1_forbid_0 : cX1_forbid.data.toList.drop 0 = dktX1_forbid_0 := by decide +kernel
theorem dksX1_forbid_1 : cX1_forbid.data.toList.drop 22 = dktX1_forbid_1 := dk_seg dksX1_forbid_0 22 rfl rfl
theorem dksX1_forbid_2 : cX1_forbid.data.toList.drop 46 = dktX1_forbid_2 := dk_seg dksX1_forbid_1 24 rfl rfl
theorem dksX1_forbid_3 : cX1_forbid.data.toList.drop 70 = dktX1_forbid_3 := dk_seg dksX1_forbid_2 24 rfl rfl
theorem dksX1_forbid_4 : cX1_forbid.data.toList.drop 93 = dktX1_forbid_4 := dk_seg dksX1_forbid_3 23 rfl rfl
theorem dksX1_forbid_5 : cX1_forbid.data.toList.drop 117 = dktX1_forbid_5 := dk_seg dksX1_forbid_4 24 rfl rfl
theorem dksX1_forbid_6 : cX1_forbid.data.toList.drop 139 = dktX1_forbid_6 := dk_seg dksX1_forbid_5 22 rfl rfl
theorem dksX1_forbid_7 : cX1_forbid.data.toList.drop 163 = dktX1_forbid_7 := dk_seg dksX1_forbid_6 24 rfl rfl
theorem dX1_forbid_0 : decode cX1_forbid 0 = .ok (.iload_n 1, 1) := dk_27 (dk_at dksX1_forbid_0 0 rfl rfl)
theorem dX1_forbid_1 : decode cX1_forbid 1 = .ok (.invokestatic 68, 3) := dk_184 0 68 (dk_at dksX1_forbid_0 1 rfl rfl)
theorem dX1_forbid_4 : decode cX1_forbid 4 = .ok (.iload_n 2, 1) := dk_28 (dk_at dksX1_forbid_0 4 rfl rfl)
theorem dX1_forbid_5 : decode cX1_forbid 5 = .ok (.ifCond .lt 20, 3) := dk_155 0 20 (dk_at dksX1_forbid_0 5 rfl rfl)
theorem dX1_forbid_8 : decode cX1_forbid 8 = .ok (.iload_n 2, 1) := dk_28 (dk_at dksX1_forbid_0 8 rfl rfl)
theorem dX1_forbid_9 : decode cX1_forbid 9 = .ok (.sipush 255, 3) := dk_17 0 255 (dk_at dksX1_forbid_0 9 rfl rfl)
theorem dX1_forbid_12 : decode cX1_forbid 12 = .ok (.if_icmp .gt 13, 3) := dk_163 0 13 (dk_at dksX1_forbid_0 12 rfl rfl)
theorem dX1_forbid_15 : decode cX1_forbid 15 = .ok (.iload_n 3, 1) := dk_29 (dk_at dksX1_forbid_0 15 rfl rfl)
theorem dX1_forbid_16 : decode cX1_forbid 16 = .ok (.ifCond .lt 9, 3) := dk_155 0 9 (dk_at dksX1_forbid_0 16 rfl rfl)
theorem dX1_forbid_19 : decode cX1_forbid 19 = .ok (.iload_n 3, 1) := dk_29 (dk_at dksX1_forbid_0 19 rfl rfl)
theorem dX1_forbid_20 : decode cX1_forbid 20 = .ok (.bipush 8, 2) := dk_16 8 (dk_at dksX1_forbid_0 20 rfl rfl)
theorem dX1_forbid_22 : decode cX1_forbid 22 = .ok (.if_icmp .le 13, 3) := dk_164 0 13 (dk_at dksX1_forbid_1 0 rfl rfl)
theorem dX1_forbid_25 : decode cX1_forbid 25 = .ok (.new 51, 3) := dk_187 0 51 (dk_at dksX1_forbid_1 3 rfl rfl)
theorem dX1_forbid_28 : decode cX1_forbid 28 = .ok (.dup, 1) := dk_89 (dk_at dksX1_forbid_1 6 rfl rfl)
theorem dX1_forbid_29 : decode cX1_forbid 29 = .ok (.ldc 73, 2) := dk_18 73 (dk_at dksX1_forbid_1 7 rfl rfl)
theorem dX1_forbid_31 : decode cX1_forbid 31 = .ok (.invokespecial 55, 3) := dk_183 0 55 (dk_at dksX1_forbid_1 9 rfl rfl)
theorem dX1_forbid_34 : decode cX1_forbid 34 = .ok (.athrow, 1) := dk_191 (dk_at dksX1_forbid_1 12 rfl rfl)
theorem dX1_forbid_35 : decode cX1_forbid 35 = .ok (.aload_n 0, 1) := dk_42 (dk_at dksX1_forbid_1 13 rfl rfl)
theorem dX1_forbid_36 : decode cX1_forbid 36 = .ok (.getfield 19, 3) := dk_180 0 19 (dk_at dksX1_forbid_1 14 rfl rfl)
theorem dX1_forbid_39 : decode cX1_forbid 39 = .ok (.iload_n 1, 1) := dk_27 (dk_at dksX1_forbid_1 17 rfl rfl)
theorem dX1_forbid_40 : decode cX1_forbid 40 = .ok (.aaload, 1) := dk_50 (dk_at dksX1_forbid_1 18 rfl rfl)
theorem dX1_forbid_41 : decode cX1_forbid 41 = .ok (.astore 4, 2) := dk_58 4 (dk_at dksX1_forbid_1 19 rfl rfl)
theorem dX1_forbid_43 : decode cX1_forbid 43 = .ok (.aload 4, 2) := dk_25 4 (dk_at dksX1_forbid_1 21 rfl rfl)
theorem dX1_forbid_45 : decode cX1_forbid 45 = .ok (.iload_n 2, 1) := dk_28 (dk_at dksX1_forbid_1 23 rfl rfl)
theorem dX1_forbid_46 : decode cX1_forbid 46 = .ok (.iload_n 3, 1) := dk_29 (dk_at dksX1_forbid_2 0 rfl rfl)
theorem dX1_forbid_47 : decode cX1_forbid 47 = .ok (.invokestatic 75, 3) := dk_184 0 75 (dk_at dksX1_forbid_2 1 rfl rfl)
theorem dX1_forbid_50 : decode cX1_forbid 50 = .ok (.iload_n 3, 1) := dk_29 (dk_at dksX1_forbid_2 4 rfl rfl)
theorem dX1_forbid_51 : decode cX1_forbid 51 = .ok (.invokevirtual 79, 3) := dk_182 0 79 (dk_at dksX1_forbid_2 5 rfl rfl)
theorem dX1_forbid_54 : decode cX1_forbid 54 = .ok (.istore 5, 2) := dk_54 5 (dk_at dksX1_forbid_2 8 rfl rfl)
theorem dX1_forbid_56 : decode cX1_forbid 56 = .ok (.iload 5, 2) := dk_21 5 (dk_at dksX1_forbid_2 10 rfl rfl)
theorem dX1_forbid_58 : decode cX1_forbid 58 = .ok (.aload 4, 2) := dk_25 4 (dk_at dksX1_forbid_2 12 rfl rfl)
theorem dX1_forbid_60 : decode cX1_forbid 60 = .ok (.getfield 82, 3) := dk_180 0 82 (dk_at dksX1_forbid_2 14 rfl rfl)
theorem dX1_forbid_63 : decode cX1_forbid 63 = .ok (.if_icmp .ne 13, 3) := dk_160 0 13 (dk_at dksX1_forbid_2 17 rfl rfl)
theorem dX1_forbid_66 : decode cX1_forbid 66 = .ok (.new 96, 3) := dk_187 0 96 (dk_at dksX1_forbid_2 20 rfl rfl)
theorem dX1_forbid_69 : decode cX1_forbid 69 = .ok (.dup, 1) := dk_89 (dk_at dksX1_forbid_2 23 rfl rfl)
theorem dX1_forbid_70 : decode cX1_forbid 70 = .ok (.ldc 73, 2) := dk_18 73 (dk_at dksX1_forbid_3 0 rfl rfl)
theorem dX1_forbid_72 : decode cX1_forbid 72 = .ok (.invokespecial 98, 3) := dk_183 0 98 (dk_at dksX1_forbid_3 2 rfl rfl)
theorem dX1_forbid_75 : decode cX1_forbid 75 = .ok (.athrow, 1) := dk_191 (dk_at dksX1_forbid_3 5 rfl rfl)
theorem dX1_forbid_76 : decode cX1_forbid 76 = .ok (.aload 4, 2) := dk_25 4 (dk_at dksX1_forbid_3 6 rfl rfl)
theorem dX1_forbid_78 : decode cX1_forbid 78 = .ok (.dup, 1) := dk_89 (dk_at dksX1_forbid_3 8 rfl rfl)
theorem dX1_forbid_79 : decode cX1_forbid 79 = .ok (.getfield 82, 3) := dk_180 0 82 (dk_at dksX1_forbid_3 9 rfl rfl)
theorem dX1_forbid_82 : decode cX1_forbid 82 = .ok (.iconst 1, 1) := dk_4 (dk_at dksX1_forbid_3 12 rfl rfl)
theorem dX1_forbid_83 : decode cX1_forbid 83 = .ok (.isub, 1) := dk_100 (dk_at dksX1_forbid_3 13 rfl rfl)
theorem dX1_forbid_84 : decode cX1_forbid 84 = .ok (.putfield 82, 3) := dk_181 0 82 (dk_at dksX1_forbid_3 14 rfl rfl)
theorem dX1_forbid_87 : decode cX1_forbid 87 = .ok (.iload 5, 2) := dk_21 5 (dk_at dksX1_forbid_3 17 rfl rfl)
theorem dX1_forbid_89 : decode cX1_forbid 89 = .ok (.istore 6, 2) := dk_54 6 (dk_at dksX1_forbid_3 19 rfl rfl)
theorem dX1_forbid_91 : decode cX1_forbid 91 = .ok (.iload 6, 2) := dk_21 6 (dk_at dksX1_forbid_3 21 rfl rfl)
theorem dX1_forbid_93 : decode cX1_forbid 93 = .ok (.aload 4, 2) := dk_25 4 (dk_at dksX1_forbid_4 0 rfl rfl)
theorem dX1_forbid_95 : decode cX1_forbid 95 = .ok (.getfield 82, 3) := dk_180 0 82 (dk_at dksX1_forbid_4 2 rfl rfl)
theorem dX1_forbid_98 : decode cX1_forbid 98 = .ok (.if_icmp .ge 63, 3) := dk_162 0 63 (dk_at dksX1_forbid_4 5 rfl rfl)
theorem dX1_forbid_101 : decode cX1_forbid 101 = .ok (.aload 4, 2) := dk_25 4 (dk_at dksX1_forbid_4 8 rfl rfl)
theorem dX1_forbid_103 : decode cX1_forbid 103 = .ok (.getfield 87, 3) := dk_180 0 87 (dk_at dksX1_forbid_4 10 rfl rfl)
theorem dX1_forbid_106 : decode cX1_forbid 106 = .ok (.iload 6, 2) := dk_21 6 (dk_at dksX1_forbid_4 13 rfl rfl)
theorem dX1_forbid_108 : decode cX1_forbid 108 = .ok (.aload 4, 2) := dk_25 4 (dk_at dksX1_forbid_4 15 rfl rfl)
theorem dX1_forbid_110 : decode cX1_forbid 110 = .ok (.getfield 87, 3) := dk_180 0 87 (dk_at dksX1_forbid_4 17 rfl rfl)
theorem dX1_forbid_113 : decode cX1_forbid 113 = .ok (.iload 6, 2) := dk_21 6 (dk_at dksX1_forbid_4 20 rfl rfl)
theorem dX1_forbid_115 : decode cX1_forbid 115 = .ok (.iconst 1, 1) := dk_4 (dk_at dksX1_forbid_4 22 rfl rfl)
theorem dX1_forbid_116 : decode cX1_forbid 116 = .ok (.iadd, 1) := dk_96 (dk_at dksX1_forbid_4 23 rfl rfl)
theorem dX1_forbid_117 : decode cX1_forbid 117 = .ok (.iaload, 1) := dk_46 (dk_at dksX1_forbid_5 0 rfl rfl)
theorem dX1_forbid_118 : decode cX1_forbid 118 = .ok (.iastore, 1) := dk_79 (dk_at dksX1_forbid_5 1 rfl rfl)
theorem dX1_forbid_119 : decode cX1_forbid 119 = .ok (.aload 4, 2) := dk_25 4 (dk_at dksX1_forbid_5 2 rfl rfl)
theorem dX1_forbid_121 : decode cX1_forbid 121 = .ok (.getfield 90, 3) := dk_180 0 90 (dk_at dksX1_forbid_5 4 rfl rfl)
theorem dX1_forbid_124 : decode cX1_forbid 124 = .ok (.iload 6, 2) := dk_21 6 (dk_at dksX1_forbid_5 7 rfl rfl)
theorem dX1_forbid_126 : decode cX1_forbid 126 = .ok (.aload 4, 2) := dk_25 4 (dk_at dksX1_forbid_5 9 rfl rfl)
theorem dX1_forbid_128 : decode cX1_forbid 128 = .ok (.getfield 90, 3) := dk_180 0 90 (dk_at dksX1_forbid_5 11 rfl rfl)
theorem dX1_forbid_131 : decode cX1_forbid 131 = .ok (.iload 6, 2) := dk_21 6 (dk_at dksX1_forbid_5 14 rfl rfl)
theorem dX1_forbid_133 : decode cX1_forbid 133 = .ok (.iconst 1, 1) := dk_4 (dk_at dksX1_forbid_5 16 rfl rfl)
theorem dX1_forbid_134 : decode cX1_forbid 134 = .ok (.iadd, 1) := dk_96 (dk_at dksX1_forbid_5 17 rfl rfl)
theorem dX1_forbid_135 : decode cX1_forbid 135 = .ok (.iaload, 1) := dk_46 (dk_at dksX1_forbid_5 18 rfl rfl)
theorem dX1_forbid_136 : decode cX1_forbid 136 = .ok (.iastore, 1) := dk_79 (dk_at dksX1_forbid_5 19 rfl rfl)
theorem dX1_forbid_137 : decode cX1_forbid 137 = .ok (.aload 4, 2) := dk_25 4 (dk_at dksX1_forbid_5 20 rfl rfl)
theorem dX1_forbid_139 : decode cX1_forbid 139 = .ok (.getfield 93, 3) := dk_180 0 93 (dk_at dksX1_forbid_6 0 rfl rfl)
theorem dX1_forbid_142 : decode cX1_forbid 142 = .ok (.iload 6, 2) := dk_21 6 (dk_at dksX1_forbid_6 3 rfl rfl)
theorem dX1_forbid_144 : decode cX1_forbid 144 = .ok (.aload 4, 2) := dk_25 4 (dk_at dksX1_forbid_6 5 rfl rfl)
theorem dX1_forbid_146 : decode cX1_forbid 146 = .ok (.getfield 93, 3) := dk_180 0 93 (dk_at dksX1_forbid_6 7 rfl rfl)
theorem dX1_forbid_149 : decode cX1_forbid 149 = .ok (.iload 6, 2) := dk_21 6 (dk_at dksX1_forbid_6 10 rfl rfl)
theorem dX1_forbid_151 : decode cX1_forbid 151 = .ok (.iconst 1, 1) := dk_4 (dk_at dksX1_forbid_6 12 rfl rfl)
theorem dX1_forbid_152 : decode cX1_forbid 152 = .ok (.iadd, 1) := dk_96 (dk_at dksX1_forbid_6 13 rfl rfl)
theorem dX1_forbid_153 : decode cX1_forbid 153 = .ok (.iaload, 1) := dk_46 (dk_at dksX1_forbid_6 14 rfl rfl)
theorem dX1_forbid_154 : decode cX1_forbid 154 = .ok (.iastore, 1) := dk_79 (dk_at dksX1_forbid_6 15 rfl rfl)
theorem dX1_forbid_155 : decode cX1_forbid 155 = .ok (.iinc 6 1, 3) := dk_132 6 1 (dk_at dksX1_forbid_6 16 rfl rfl)
theorem dX1_forbid_158 : decode cX1_forbid 158 = .ok (.goto (-67), 3) := dk_167 255 189 (dk_at dksX1_forbid_6 19 rfl rfl)
theorem dX1_forbid_161 : decode cX1_forbid 161 = .ok (.aload 4, 2) := dk_25 4 (dk_at dksX1_forbid_6 22 rfl rfl)
theorem dX1_forbid_163 : decode cX1_forbid 163 = .ok (.getfield 82, 3) := dk_180 0 82 (dk_at dksX1_forbid_7 0 rfl rfl)
theorem dX1_forbid_166 : decode cX1_forbid 166 = .ok (.ireturn, 1) := dk_172 (dk_at dksX1_forbid_7 3 rfl rfl)
abbrev cX1_send : ByteArray := prog_1_method_7_code
def yX1_send : MethodName := ⟨RX1, "send", "(IIII)I"⟩
def dkwX1_send_7 : List UInt8 := [182, 0, 137, 42, 25, 6, 182, 0, 129, 154, 0, 10, 42, 27, 21, 5, 182, 0, 133, 3, 172]
abbrev dktX1_send_7 : List UInt8 := dkwX1_send_7 ++ []
def dkwX1_send_6 : List UInt8 := [42, 25, 6, 182, 0, 129, 154, 0, 10, 42, 27, 21, 5, 182, 0, 133, 4, 172, 25, 6, 28, 29, 21, 4]
abbrev dktX1_send_6 : List UInt8 := dkwX1_send_6 ++ dktX1_send_7
def dkwX1_send_5 : List UInt8 := [153, 0, 40, 42, 25, 7, 182, 0, 122, 16, 20, 162, 0, 13, 25, 7, 180, 0, 126, 16, 30, 161, 0, 19]
abbrev dktX1_send_5 : List UInt8 := dkwX1_send_5 ++ dktX1_send_6
def dkwX1_send_4 : List UInt8 := [27, 21, 5, 28, 29, 21, 4, 182, 0, 112, 25, 6, 180, 0, 104, 58, 7, 25, 7, 180, 0, 116]
abbrev dktX1_send_4 : List UInt8 := dkwX1_send_4 ++ dktX1_send_5
def dkwX1_send_3 : List UInt8 := [42, 180, 0, 25, 27, 50, 21, 5, 50, 58, 6, 42, 25, 6, 180, 0, 104, 182, 0, 108, 153, 0, 68, 42]
abbrev dktX1_send_3 : List UInt8 := dkwX1_send_3 ++ dktX1_send_4
def dkwX1_send_2 : List UInt8 := [183, 0, 55, 191, 42, 180, 0, 19, 27, 50, 29, 182, 0, 101, 54, 5, 21, 5, 2, 160, 0, 5, 2, 172]
abbrev dktX1_send_2 : List UInt8 := dkwX1_send_2 ++ dktX1_send_3
def dkwX1_send_1 : List UInt8 := [163, 0, 16, 21, 4, 155, 0, 11, 21, 4, 17, 39, 15, 164, 0, 13, 187, 0, 51, 89, 18, 99]
abbrev dktX1_send_1 : List UInt8 := dkwX1_send_1 ++ dktX1_send_2
def dkwX1_send_0 : List UInt8 := [27, 184, 0, 68, 28, 155, 0, 34, 28, 17, 0, 255, 163, 0, 27, 29, 155, 0, 23, 29, 17, 0, 255]
abbrev dktX1_send_0 : List UInt8 := dkwX1_send_0 ++ dktX1_send_1
theorem dksX1_send_0 : cX1_send.data.toList.drop 0 = dktX1_send_0 := by decide +kernel
theorem dksX1_send_1 : cX1_send.data.toList.drop 23 = dktX1_send_1 := dk_seg dksX1_send_0 23 rfl rfl
theorem dksX1_send_2 : cX1_send.data.toList.drop 45 = dktX1_send_2 := dk_seg dksX1_send_1 22 rfl rfl
theorem dksX1_send_3 : cX1_send.data.toList.drop 69 = dktX1_send_3 := dk_seg dksX1_send_2 24 rfl rfl
theorem dksX1_send_4 : cX1_send.data.toList.drop 93 = dktX1_send_4 := dk_seg dksX1_send_3 24 rfl rfl
theorem dksX1_send_5 : cX1_send.data.toList.drop 115 = dktX1_send_5 := dk_seg dksX1_send_4 22 rfl rfl
theorem dksX1_send_6 : cX1_send.data.toList.drop 139 = dktX1_send_6 := dk_seg dksX1_send_5 24 rfl rfl
theorem dksX1_send_7 : cX1_send.data.toList.drop 163 = dktX1_send_7 := dk_seg dksX1_send_6 24 rfl rfl
theorem dX1_send_0 : decode cX1_send 0 = .ok (.iload_n 1, 1) := dk_27 (dk_at dksX1_send_0 0 rfl rfl)
theorem dX1_send_1 : decode cX1_send 1 = .ok (.invokestatic 68, 3) := dk_184 0 68 (dk_at dksX1_send_0 1 rfl rfl)
theorem dX1_send_4 : decode cX1_send 4 = .ok (.iload_n 2, 1) := dk_28 (dk_at dksX1_send_0 4 rfl rfl)
theorem dX1_send_5 : decode cX1_send 5 = .ok (.ifCond .lt 34, 3) := dk_155 0 34 (dk_at dksX1_send_0 5 rfl rfl)
theorem dX1_send_8 : decode cX1_send 8 = .ok (.iload_n 2, 1) := dk_28 (dk_at dksX1_send_0 8 rfl rfl)
theorem dX1_send_9 : decode cX1_send 9 = .ok (.sipush 255, 3) := dk_17 0 255 (dk_at dksX1_send_0 9 rfl rfl)
theorem dX1_send_12 : decode cX1_send 12 = .ok (.if_icmp .gt 27, 3) := dk_163 0 27 (dk_at dksX1_send_0 12 rfl rfl)
theorem dX1_send_15 : decode cX1_send 15 = .ok (.iload_n 3, 1) := dk_29 (dk_at dksX1_send_0 15 rfl rfl)
theorem dX1_send_16 : decode cX1_send 16 = .ok (.ifCond .lt 23, 3) := dk_155 0 23 (dk_at dksX1_send_0 16 rfl rfl)
theorem dX1_send_19 : decode cX1_send 19 = .ok (.iload_n 3, 1) := dk_29 (dk_at dksX1_send_0 19 rfl rfl)
theorem dX1_send_20 : decode cX1_send 20 = .ok (.sipush 255, 3) := dk_17 0 255 (dk_at dksX1_send_0 20 rfl rfl)
theorem dX1_send_23 : decode cX1_send 23 = .ok (.if_icmp .gt 16, 3) := dk_163 0 16 (dk_at dksX1_send_1 0 rfl rfl)
theorem dX1_send_26 : decode cX1_send 26 = .ok (.iload 4, 2) := dk_21 4 (dk_at dksX1_send_1 3 rfl rfl)
theorem dX1_send_28 : decode cX1_send 28 = .ok (.ifCond .lt 11, 3) := dk_155 0 11 (dk_at dksX1_send_1 5 rfl rfl)
theorem dX1_send_31 : decode cX1_send 31 = .ok (.iload 4, 2) := dk_21 4 (dk_at dksX1_send_1 8 rfl rfl)
theorem dX1_send_33 : decode cX1_send 33 = .ok (.sipush 9999, 3) := dk_17 39 15 (dk_at dksX1_send_1 10 rfl rfl)
theorem dX1_send_36 : decode cX1_send 36 = .ok (.if_icmp .le 13, 3) := dk_164 0 13 (dk_at dksX1_send_1 13 rfl rfl)
theorem dX1_send_39 : decode cX1_send 39 = .ok (.new 51, 3) := dk_187 0 51 (dk_at dksX1_send_1 16 rfl rfl)
theorem dX1_send_42 : decode cX1_send 42 = .ok (.dup, 1) := dk_89 (dk_at dksX1_send_1 19 rfl rfl)
theorem dX1_send_43 : decode cX1_send 43 = .ok (.ldc 99, 2) := dk_18 99 (dk_at dksX1_send_1 20 rfl rfl)
theorem dX1_send_45 : decode cX1_send 45 = .ok (.invokespecial 55, 3) := dk_183 0 55 (dk_at dksX1_send_2 0 rfl rfl)
theorem dX1_send_48 : decode cX1_send 48 = .ok (.athrow, 1) := dk_191 (dk_at dksX1_send_2 3 rfl rfl)
theorem dX1_send_49 : decode cX1_send 49 = .ok (.aload_n 0, 1) := dk_42 (dk_at dksX1_send_2 4 rfl rfl)
theorem dX1_send_50 : decode cX1_send 50 = .ok (.getfield 19, 3) := dk_180 0 19 (dk_at dksX1_send_2 5 rfl rfl)
theorem dX1_send_53 : decode cX1_send 53 = .ok (.iload_n 1, 1) := dk_27 (dk_at dksX1_send_2 8 rfl rfl)
theorem dX1_send_54 : decode cX1_send 54 = .ok (.aaload, 1) := dk_50 (dk_at dksX1_send_2 9 rfl rfl)
theorem dX1_send_55 : decode cX1_send 55 = .ok (.iload_n 3, 1) := dk_29 (dk_at dksX1_send_2 10 rfl rfl)
theorem dX1_send_56 : decode cX1_send 56 = .ok (.invokevirtual 101, 3) := dk_182 0 101 (dk_at dksX1_send_2 11 rfl rfl)
theorem dX1_send_59 : decode cX1_send 59 = .ok (.istore 5, 2) := dk_54 5 (dk_at dksX1_send_2 14 rfl rfl)
theorem dX1_send_61 : decode cX1_send 61 = .ok (.iload 5, 2) := dk_21 5 (dk_at dksX1_send_2 16 rfl rfl)
theorem dX1_send_63 : decode cX1_send 63 = .ok (.iconst (-1), 1) := dk_2 (dk_at dksX1_send_2 18 rfl rfl)
theorem dX1_send_64 : decode cX1_send 64 = .ok (.if_icmp .ne 5, 3) := dk_160 0 5 (dk_at dksX1_send_2 19 rfl rfl)
theorem dX1_send_67 : decode cX1_send 67 = .ok (.iconst (-1), 1) := dk_2 (dk_at dksX1_send_2 22 rfl rfl)
theorem dX1_send_68 : decode cX1_send 68 = .ok (.ireturn, 1) := dk_172 (dk_at dksX1_send_2 23 rfl rfl)
theorem dX1_send_69 : decode cX1_send 69 = .ok (.aload_n 0, 1) := dk_42 (dk_at dksX1_send_3 0 rfl rfl)
theorem dX1_send_70 : decode cX1_send 70 = .ok (.getfield 25, 3) := dk_180 0 25 (dk_at dksX1_send_3 1 rfl rfl)
theorem dX1_send_73 : decode cX1_send 73 = .ok (.iload_n 1, 1) := dk_27 (dk_at dksX1_send_3 4 rfl rfl)
theorem dX1_send_74 : decode cX1_send 74 = .ok (.aaload, 1) := dk_50 (dk_at dksX1_send_3 5 rfl rfl)
theorem dX1_send_75 : decode cX1_send 75 = .ok (.iload 5, 2) := dk_21 5 (dk_at dksX1_send_3 6 rfl rfl)
theorem dX1_send_77 : decode cX1_send 77 = .ok (.aaload, 1) := dk_50 (dk_at dksX1_send_3 8 rfl rfl)
theorem dX1_send_78 : decode cX1_send 78 = .ok (.astore 6, 2) := dk_58 6 (dk_at dksX1_send_3 9 rfl rfl)
theorem dX1_send_80 : decode cX1_send 80 = .ok (.aload_n 0, 1) := dk_42 (dk_at dksX1_send_3 11 rfl rfl)
theorem dX1_send_81 : decode cX1_send 81 = .ok (.aload 6, 2) := dk_25 6 (dk_at dksX1_send_3 12 rfl rfl)
theorem dX1_send_83 : decode cX1_send 83 = .ok (.getfield 104, 3) := dk_180 0 104 (dk_at dksX1_send_3 14 rfl rfl)
theorem dX1_send_86 : decode cX1_send 86 = .ok (.invokevirtual 108, 3) := dk_182 0 108 (dk_at dksX1_send_3 17 rfl rfl)
theorem dX1_send_89 : decode cX1_send 89 = .ok (.ifCond .eq 68, 3) := dk_153 0 68 (dk_at dksX1_send_3 20 rfl rfl)
theorem dX1_send_92 : decode cX1_send 92 = .ok (.aload_n 0, 1) := dk_42 (dk_at dksX1_send_3 23 rfl rfl)
theorem dX1_send_93 : decode cX1_send 93 = .ok (.iload_n 1, 1) := dk_27 (dk_at dksX1_send_4 0 rfl rfl)
theorem dX1_send_94 : decode cX1_send 94 = .ok (.iload 5, 2) := dk_21 5 (dk_at dksX1_send_4 1 rfl rfl)
theorem dX1_send_96 : decode cX1_send 96 = .ok (.iload_n 2, 1) := dk_28 (dk_at dksX1_send_4 3 rfl rfl)
theorem dX1_send_97 : decode cX1_send 97 = .ok (.iload_n 3, 1) := dk_29 (dk_at dksX1_send_4 4 rfl rfl)
theorem dX1_send_98 : decode cX1_send 98 = .ok (.iload 4, 2) := dk_21 4 (dk_at dksX1_send_4 5 rfl rfl)
theorem dX1_send_100 : decode cX1_send 100 = .ok (.invokevirtual 112, 3) := dk_182 0 112 (dk_at dksX1_send_4 7 rfl rfl)
theorem dX1_send_103 : decode cX1_send 103 = .ok (.aload 6, 2) := dk_25 6 (dk_at dksX1_send_4 10 rfl rfl)
theorem dX1_send_105 : decode cX1_send 105 = .ok (.getfield 104, 3) := dk_180 0 104 (dk_at dksX1_send_4 12 rfl rfl)
theorem dX1_send_108 : decode cX1_send 108 = .ok (.astore 7, 2) := dk_58 7 (dk_at dksX1_send_4 15 rfl rfl)
theorem dX1_send_110 : decode cX1_send 110 = .ok (.aload 7, 2) := dk_25 7 (dk_at dksX1_send_4 17 rfl rfl)
theorem dX1_send_112 : decode cX1_send 112 = .ok (.getfield 116, 3) := dk_180 0 116 (dk_at dksX1_send_4 19 rfl rfl)
theorem dX1_send_115 : decode cX1_send 115 = .ok (.ifCond .eq 40, 3) := dk_153 0 40 (dk_at dksX1_send_5 0 rfl rfl)
theorem dX1_send_118 : decode cX1_send 118 = .ok (.aload_n 0, 1) := dk_42 (dk_at dksX1_send_5 3 rfl rfl)
theorem dX1_send_119 : decode cX1_send 119 = .ok (.aload 7, 2) := dk_25 7 (dk_at dksX1_send_5 4 rfl rfl)
theorem dX1_send_121 : decode cX1_send 121 = .ok (.invokevirtual 122, 3) := dk_182 0 122 (dk_at dksX1_send_5 6 rfl rfl)
theorem dX1_send_124 : decode cX1_send 124 = .ok (.bipush 20, 2) := dk_16 20 (dk_at dksX1_send_5 9 rfl rfl)
theorem dX1_send_126 : decode cX1_send 126 = .ok (.if_icmp .ge 13, 3) := dk_162 0 13 (dk_at dksX1_send_5 11 rfl rfl)
theorem dX1_send_129 : decode cX1_send 129 = .ok (.aload 7, 2) := dk_25 7 (dk_at dksX1_send_5 14 rfl rfl)
theorem dX1_send_131 : decode cX1_send 131 = .ok (.getfield 126, 3) := dk_180 0 126 (dk_at dksX1_send_5 16 rfl rfl)
theorem dX1_send_134 : decode cX1_send 134 = .ok (.bipush 30, 2) := dk_16 30 (dk_at dksX1_send_5 19 rfl rfl)
theorem dX1_send_136 : decode cX1_send 136 = .ok (.if_icmp .lt 19, 3) := dk_161 0 19 (dk_at dksX1_send_5 21 rfl rfl)
theorem dX1_send_139 : decode cX1_send 139 = .ok (.aload_n 0, 1) := dk_42 (dk_at dksX1_send_6 0 rfl rfl)
theorem dX1_send_140 : decode cX1_send 140 = .ok (.aload 6, 2) := dk_25 6 (dk_at dksX1_send_6 1 rfl rfl)
theorem dX1_send_142 : decode cX1_send 142 = .ok (.invokevirtual 129, 3) := dk_182 0 129 (dk_at dksX1_send_6 3 rfl rfl)
theorem dX1_send_145 : decode cX1_send 145 = .ok (.ifCond .ne 10, 3) := dk_154 0 10 (dk_at dksX1_send_6 6 rfl rfl)
theorem dX1_send_148 : decode cX1_send 148 = .ok (.aload_n 0, 1) := dk_42 (dk_at dksX1_send_6 9 rfl rfl)
theorem dX1_send_149 : decode cX1_send 149 = .ok (.iload_n 1, 1) := dk_27 (dk_at dksX1_send_6 10 rfl rfl)
theorem dX1_send_150 : decode cX1_send 150 = .ok (.iload 5, 2) := dk_21 5 (dk_at dksX1_send_6 11 rfl rfl)
theorem dX1_send_152 : decode cX1_send 152 = .ok (.invokevirtual 133, 3) := dk_182 0 133 (dk_at dksX1_send_6 13 rfl rfl)
theorem dX1_send_155 : decode cX1_send 155 = .ok (.iconst 1, 1) := dk_4 (dk_at dksX1_send_6 16 rfl rfl)
theorem dX1_send_156 : decode cX1_send 156 = .ok (.ireturn, 1) := dk_172 (dk_at dksX1_send_6 17 rfl rfl)
theorem dX1_send_157 : decode cX1_send 157 = .ok (.aload 6, 2) := dk_25 6 (dk_at dksX1_send_6 18 rfl rfl)
theorem dX1_send_159 : decode cX1_send 159 = .ok (.iload_n 2, 1) := dk_28 (dk_at dksX1_send_6 20 rfl rfl)
theorem dX1_send_160 : decode cX1_send 160 = .ok (.iload_n 3, 1) := dk_29 (dk_at dksX1_send_6 21 rfl rfl)
theorem dX1_send_161 : decode cX1_send 161 = .ok (.iload 4, 2) := dk_21 4 (dk_at dksX1_send_6 22 rfl rfl)
theorem dX1_send_163 : decode cX1_send 163 = .ok (.invokevirtual 137, 3) := dk_182 0 137 (dk_at dksX1_send_7 0 rfl rfl)
theorem dX1_send_166 : decode cX1_send 166 = .ok (.aload_n 0, 1) := dk_42 (dk_at dksX1_send_7 3 rfl rfl)
theorem dX1_send_167 : decode cX1_send 167 = .ok (.aload 6, 2) := dk_25 6 (dk_at dksX1_send_7 4 rfl rfl)
theorem dX1_send_169 : decode cX1_send 169 = .ok (.invokevirtual 129, 3) := dk_182 0 129 (dk_at dksX1_send_7 6 rfl rfl)
theorem dX1_send_172 : decode cX1_send 172 = .ok (.ifCond .ne 10, 3) := dk_154 0 10 (dk_at dksX1_send_7 9 rfl rfl)
theorem dX1_send_175 : decode cX1_send 175 = .ok (.aload_n 0, 1) := dk_42 (dk_at dksX1_send_7 12 rfl rfl)
theorem dX1_send_176 : decode cX1_send 176 = .ok (.iload_n 1, 1) := dk_27 (dk_at dksX1_send_7 13 rfl rfl)
theorem dX1_send_177 : decode cX1_send 177 = .ok (.iload 5, 2) := dk_21 5 (dk_at dksX1_send_7 14 rfl rfl)
theorem dX1_send_179 : decode cX1_send 179 = .ok (.invokevirtual 133, 3) := dk_182 0 133 (dk_at dksX1_send_7 16 rfl rfl)
theorem dX1_send_182 : decode cX1_send 182 = .ok (.iconst 0, 1) := dk_3 (dk_at dksX1_send_7 19 rfl rfl)
theorem dX1_send_183 : decode cX1_send 183 = .ok (.ireturn, 1) := dk_172 (dk_at dksX1_send_7 20 rfl rfl)
abbrev cX1_isUsable : ByteArray := prog_1_method_51_code
def yX1_isUsable : MethodName := ⟨RX1, "isUsable", "(LBurrowline$Session;)Z"⟩
def dkwX1_isUsable_1 : List UInt8 := [167, 0, 4, 3, 172]
abbrev dktX1_isUsable_1 : List UInt8 := dkwX1_isUsable_1 ++ []
def dkwX1_isUsable_0 : List UInt8 := [43, 198, 0, 26, 42, 43, 182, 0, 122, 16, 30, 162, 0, 16, 43, 180, 0, 126, 16, 40, 162, 0, 7, 4]
abbrev dktX1_isUsable_0 : List UInt8 := dkwX1_isUsable_0 ++ dktX1_isUsable_1
theorem dksX1_isUsable_0 : cX1_isUsable.data.toList.drop 0 = dktX1_isUsable_0 := by decide +kernel
theorem dksX1_isUsable_1 : cX1_isUsable.data.toList.drop 24 = dktX1_isUsable_1 := dk_seg dksX1_isUsable_0 24 rfl rfl
theorem dX1_isUsable_0 : decode cX1_isUsable 0 = .ok (.aload_n 1, 1) := dk_43 (dk_at dksX1_isUsable_0 0 rfl rfl)
theorem dX1_isUsable_1 : decode cX1_isUsable 1 = .ok (.ifnull 26, 3) := dk_198 0 26 (dk_at dksX1_isUsable_0 1 rfl rfl)
theorem dX1_isUsable_4 : decode cX1_isUsable 4 = .ok (.aload_n 0, 1) := dk_42 (dk_at dksX1_isUsable_0 4 rfl rfl)
theorem dX1_isUsable_5 : decode cX1_isUsable 5 = .ok (.aload_n 1, 1) := dk_43 (dk_at dksX1_isUsable_0 5 rfl rfl)
theorem dX1_isUsable_6 : decode cX1_isUsable 6 = .ok (.invokevirtual 122, 3) := dk_182 0 122 (dk_at dksX1_isUsable_0 6 rfl rfl)
theorem dX1_isUsable_9 : decode cX1_isUsable 9 = .ok (.bipush 30, 2) := dk_16 30 (dk_at dksX1_isUsable_0 9 rfl rfl)
theorem dX1_isUsable_11 : decode cX1_isUsable 11 = .ok (.if_icmp .ge 16, 3) := dk_162 0 16 (dk_at dksX1_isUsable_0 11 rfl rfl)
theorem dX1_isUsable_14 : decode cX1_isUsable 14 = .ok (.aload_n 1, 1) := dk_43 (dk_at dksX1_isUsable_0 14 rfl rfl)
theorem dX1_isUsable_15 : decode cX1_isUsable 15 = .ok (.getfield 126, 3) := dk_180 0 126 (dk_at dksX1_isUsable_0 15 rfl rfl)
theorem dX1_isUsable_18 : decode cX1_isUsable 18 = .ok (.bipush 40, 2) := dk_16 40 (dk_at dksX1_isUsable_0 18 rfl rfl)
theorem dX1_isUsable_20 : decode cX1_isUsable 20 = .ok (.if_icmp .ge 7, 3) := dk_162 0 7 (dk_at dksX1_isUsable_0 20 rfl rfl)
theorem dX1_isUsable_23 : decode cX1_isUsable 23 = .ok (.iconst 1, 1) := dk_4 (dk_at dksX1_isUsable_0 23 rfl rfl)
theorem dX1_isUsable_24 : decode cX1_isUsable 24 = .ok (.goto 4, 3) := dk_167 0 4 (dk_at dksX1_isUsable_1 0 rfl rfl)
theorem dX1_isUsable_27 : decode cX1_isUsable 27 = .ok (.iconst 0, 1) := dk_3 (dk_at dksX1_isUsable_1 3 rfl rfl)
theorem dX1_isUsable_28 : decode cX1_isUsable 28 = .ok (.ireturn, 1) := dk_172 (dk_at dksX1_isUsable_1 4 rfl rfl)
abbrev cX1_sendData : ByteArray := prog_1_method_47_code
def yX1_sendData : MethodName := ⟨RX1, "sendData", "(IIIII)V"⟩
def dkwX1_sendData_5 : List UInt8 := [182, 1, 76, 25, 7, 89, 180, 0, 126, 4, 96, 181, 0, 126, 177]
abbrev dktX1_sendData_5 : List UInt8 := dkwX1_sendData_5 ++ []
def dkwX1_sendData_4 : List UInt8 := [180, 0, 126, 79, 89, 5, 29, 79, 89, 6, 21, 4, 79, 89, 7, 21, 5, 79, 89, 8, 21, 8, 79]
abbrev dktX1_sendData_4 : List UInt8 := dkwX1_sendData_4 ++ dktX1_sendData_5
def dkwX1_sendData_3 : List UInt8 := [7, 25, 7, 180, 0, 238, 16, 6, 188, 10, 89, 3, 25, 7, 180, 0, 229, 79, 89, 4, 25, 7]
abbrev dktX1_sendData_3 : List UInt8 := dkwX1_sendData_3 ++ dktX1_sendData_4
def dkwX1_sendData_2 : List UInt8 := [29, 79, 89, 7, 21, 4, 79, 89, 8, 21, 5, 79, 184, 1, 24, 54, 8, 42, 27, 25, 6, 180, 0, 218]
abbrev dktX1_sendData_2 : List UInt8 := dkwX1_sendData_2 ++ dktX1_sendData_3
def dkwX1_sendData_1 : List UInt8 := [188, 10, 89, 3, 7, 79, 89, 4, 25, 7, 180, 0, 229, 79, 89, 5, 25, 7, 180, 0, 126, 79, 89, 6]
abbrev dktX1_sendData_1 : List UInt8 := dkwX1_sendData_1 ++ dktX1_sendData_2
def dkwX1_sendData_0 : List UInt8 := [42, 180, 0, 25, 27, 50, 28, 50, 58, 6, 25, 6, 180, 0, 104, 58, 7, 25, 7, 180, 0, 238, 16, 6]
abbrev dktX1_sendData_0 : List UInt8 := dkwX1_sendData_0 ++ dktX1_sendData_1
theorem dksX1_sendData_0 : cX1_sendData.data.toList.drop 0 = dktX1_sendData_0 := by decide +kernel
theorem dksX1_sendData_1 : cX1_sendData.data.toList.drop 24 = dktX1_sendData_1 := dk_seg dksX1_sendData_0 24 rfl rfl
theorem dksX1_sendData_2 : cX1_sendData.data.toList.drop 48 = dktX1_sendData_2 := dk_seg dksX1_sendData_1 24 rfl rfl
theorem dksX1_sendData_3 : cX1_sendData.data.toList.drop 72 = dktX1_sendData_3 := dk_seg dksX1_sendData_2 24 rfl rfl
theorem dksX1_sendData_4 : cX1_sendData.data.toList.drop 94 = dktX1_sendData_4 := dk_seg dksX1_sendData_3 22 rfl rfl
theorem dksX1_sendData_5 : cX1_sendData.data.toList.drop 117 = dktX1_sendData_5 := dk_seg dksX1_sendData_4 23 rfl rfl
theorem dX1_sendData_0 : decode cX1_sendData 0 = .ok (.aload_n 0, 1) := dk_42 (dk_at dksX1_sendData_0 0 rfl rfl)
theorem dX1_sendData_1 : decode cX1_sendData 1 = .ok (.getfield 25, 3) := dk_180 0 25 (dk_at dksX1_sendData_0 1 rfl rfl)
theorem dX1_sendData_4 : decode cX1_sendData 4 = .ok (.iload_n 1, 1) := dk_27 (dk_at dksX1_sendData_0 4 rfl rfl)
theorem dX1_sendData_5 : decode cX1_sendData 5 = .ok (.aaload, 1) := dk_50 (dk_at dksX1_sendData_0 5 rfl rfl)
theorem dX1_sendData_6 : decode cX1_sendData 6 = .ok (.iload_n 2, 1) := dk_28 (dk_at dksX1_sendData_0 6 rfl rfl)
theorem dX1_sendData_7 : decode cX1_sendData 7 = .ok (.aaload, 1) := dk_50 (dk_at dksX1_sendData_0 7 rfl rfl)
theorem dX1_sendData_8 : decode cX1_sendData 8 = .ok (.astore 6, 2) := dk_58 6 (dk_at dksX1_sendData_0 8 rfl rfl)
theorem dX1_sendData_10 : decode cX1_sendData 10 = .ok (.aload 6, 2) := dk_25 6 (dk_at dksX1_sendData_0 10 rfl rfl)
theorem dX1_sendData_12 : decode cX1_sendData 12 = .ok (.getfield 104, 3) := dk_180 0 104 (dk_at dksX1_sendData_0 12 rfl rfl)
theorem dX1_sendData_15 : decode cX1_sendData 15 = .ok (.astore 7, 2) := dk_58 7 (dk_at dksX1_sendData_0 15 rfl rfl)
theorem dX1_sendData_17 : decode cX1_sendData 17 = .ok (.aload 7, 2) := dk_25 7 (dk_at dksX1_sendData_0 17 rfl rfl)
theorem dX1_sendData_19 : decode cX1_sendData 19 = .ok (.getfield 238, 3) := dk_180 0 238 (dk_at dksX1_sendData_0 19 rfl rfl)
theorem dX1_sendData_22 : decode cX1_sendData 22 = .ok (.bipush 6, 2) := dk_16 6 (dk_at dksX1_sendData_0 22 rfl rfl)
theorem dX1_sendData_24 : decode cX1_sendData 24 = .ok (.newarray .int, 2) := dk_188_10 (dk_at dksX1_sendData_1 0 rfl rfl)
theorem dX1_sendData_26 : decode cX1_sendData 26 = .ok (.dup, 1) := dk_89 (dk_at dksX1_sendData_1 2 rfl rfl)
theorem dX1_sendData_27 : decode cX1_sendData 27 = .ok (.iconst 0, 1) := dk_3 (dk_at dksX1_sendData_1 3 rfl rfl)
theorem dX1_sendData_28 : decode cX1_sendData 28 = .ok (.iconst 4, 1) := dk_7 (dk_at dksX1_sendData_1 4 rfl rfl)
theorem dX1_sendData_29 : decode cX1_sendData 29 = .ok (.iastore, 1) := dk_79 (dk_at dksX1_sendData_1 5 rfl rfl)
theorem dX1_sendData_30 : decode cX1_sendData 30 = .ok (.dup, 1) := dk_89 (dk_at dksX1_sendData_1 6 rfl rfl)
theorem dX1_sendData_31 : decode cX1_sendData 31 = .ok (.iconst 1, 1) := dk_4 (dk_at dksX1_sendData_1 7 rfl rfl)
theorem dX1_sendData_32 : decode cX1_sendData 32 = .ok (.aload 7, 2) := dk_25 7 (dk_at dksX1_sendData_1 8 rfl rfl)
theorem dX1_sendData_34 : decode cX1_sendData 34 = .ok (.getfield 229, 3) := dk_180 0 229 (dk_at dksX1_sendData_1 10 rfl rfl)
theorem dX1_sendData_37 : decode cX1_sendData 37 = .ok (.iastore, 1) := dk_79 (dk_at dksX1_sendData_1 13 rfl rfl)
theorem dX1_sendData_38 : decode cX1_sendData 38 = .ok (.dup, 1) := dk_89 (dk_at dksX1_sendData_1 14 rfl rfl)
theorem dX1_sendData_39 : decode cX1_sendData 39 = .ok (.iconst 2, 1) := dk_5 (dk_at dksX1_sendData_1 15 rfl rfl)
theorem dX1_sendData_40 : decode cX1_sendData 40 = .ok (.aload 7, 2) := dk_25 7 (dk_at dksX1_sendData_1 16 rfl rfl)
theorem dX1_sendData_42 : decode cX1_sendData 42 = .ok (.getfield 126, 3) := dk_180 0 126 (dk_at dksX1_sendData_1 18 rfl rfl)
theorem dX1_sendData_45 : decode cX1_sendData 45 = .ok (.iastore, 1) := dk_79 (dk_at dksX1_sendData_1 21 rfl rfl)
theorem dX1_sendData_46 : decode cX1_sendData 46 = .ok (.dup, 1) := dk_89 (dk_at dksX1_sendData_1 22 rfl rfl)
theorem dX1_sendData_47 : decode cX1_sendData 47 = .ok (.iconst 3, 1) := dk_6 (dk_at dksX1_sendData_1 23 rfl rfl)
theorem dX1_sendData_48 : decode cX1_sendData 48 = .ok (.iload_n 3, 1) := dk_29 (dk_at dksX1_sendData_2 0 rfl rfl)
theorem dX1_sendData_49 : decode cX1_sendData 49 = .ok (.iastore, 1) := dk_79 (dk_at dksX1_sendData_2 1 rfl rfl)
theorem dX1_sendData_50 : decode cX1_sendData 50 = .ok (.dup, 1) := dk_89 (dk_at dksX1_sendData_2 2 rfl rfl)
theorem dX1_sendData_51 : decode cX1_sendData 51 = .ok (.iconst 4, 1) := dk_7 (dk_at dksX1_sendData_2 3 rfl rfl)
theorem dX1_sendData_52 : decode cX1_sendData 52 = .ok (.iload 4, 2) := dk_21 4 (dk_at dksX1_sendData_2 4 rfl rfl)
theorem dX1_sendData_54 : decode cX1_sendData 54 = .ok (.iastore, 1) := dk_79 (dk_at dksX1_sendData_2 6 rfl rfl)
theorem dX1_sendData_55 : decode cX1_sendData 55 = .ok (.dup, 1) := dk_89 (dk_at dksX1_sendData_2 7 rfl rfl)
theorem dX1_sendData_56 : decode cX1_sendData 56 = .ok (.iconst 5, 1) := dk_8 (dk_at dksX1_sendData_2 8 rfl rfl)
theorem dX1_sendData_57 : decode cX1_sendData 57 = .ok (.iload 5, 2) := dk_21 5 (dk_at dksX1_sendData_2 9 rfl rfl)
theorem dX1_sendData_59 : decode cX1_sendData 59 = .ok (.iastore, 1) := dk_79 (dk_at dksX1_sendData_2 11 rfl rfl)
theorem dX1_sendData_60 : decode cX1_sendData 60 = .ok (.invokestatic 280, 3) := dk_184 1 24 (dk_at dksX1_sendData_2 12 rfl rfl)
theorem dX1_sendData_63 : decode cX1_sendData 63 = .ok (.istore 8, 2) := dk_54 8 (dk_at dksX1_sendData_2 15 rfl rfl)
theorem dX1_sendData_65 : decode cX1_sendData 65 = .ok (.aload_n 0, 1) := dk_42 (dk_at dksX1_sendData_2 17 rfl rfl)
theorem dX1_sendData_66 : decode cX1_sendData 66 = .ok (.iload_n 1, 1) := dk_27 (dk_at dksX1_sendData_2 18 rfl rfl)
theorem dX1_sendData_67 : decode cX1_sendData 67 = .ok (.aload 6, 2) := dk_25 6 (dk_at dksX1_sendData_2 19 rfl rfl)
theorem dX1_sendData_69 : decode cX1_sendData 69 = .ok (.getfield 218, 3) := dk_180 0 218 (dk_at dksX1_sendData_2 21 rfl rfl)
theorem dX1_sendData_72 : decode cX1_sendData 72 = .ok (.iconst 4, 1) := dk_7 (dk_at dksX1_sendData_3 0 rfl rfl)
theorem dX1_sendData_73 : decode cX1_sendData 73 = .ok (.aload 7, 2) := dk_25 7 (dk_at dksX1_sendData_3 1 rfl rfl)
theorem dX1_sendData_75 : decode cX1_sendData 75 = .ok (.getfield 238, 3) := dk_180 0 238 (dk_at dksX1_sendData_3 3 rfl rfl)
theorem dX1_sendData_78 : decode cX1_sendData 78 = .ok (.bipush 6, 2) := dk_16 6 (dk_at dksX1_sendData_3 6 rfl rfl)
theorem dX1_sendData_80 : decode cX1_sendData 80 = .ok (.newarray .int, 2) := dk_188_10 (dk_at dksX1_sendData_3 8 rfl rfl)
theorem dX1_sendData_82 : decode cX1_sendData 82 = .ok (.dup, 1) := dk_89 (dk_at dksX1_sendData_3 10 rfl rfl)
theorem dX1_sendData_83 : decode cX1_sendData 83 = .ok (.iconst 0, 1) := dk_3 (dk_at dksX1_sendData_3 11 rfl rfl)
theorem dX1_sendData_84 : decode cX1_sendData 84 = .ok (.aload 7, 2) := dk_25 7 (dk_at dksX1_sendData_3 12 rfl rfl)
theorem dX1_sendData_86 : decode cX1_sendData 86 = .ok (.getfield 229, 3) := dk_180 0 229 (dk_at dksX1_sendData_3 14 rfl rfl)
theorem dX1_sendData_89 : decode cX1_sendData 89 = .ok (.iastore, 1) := dk_79 (dk_at dksX1_sendData_3 17 rfl rfl)
theorem dX1_sendData_90 : decode cX1_sendData 90 = .ok (.dup, 1) := dk_89 (dk_at dksX1_sendData_3 18 rfl rfl)
theorem dX1_sendData_91 : decode cX1_sendData 91 = .ok (.iconst 1, 1) := dk_4 (dk_at dksX1_sendData_3 19 rfl rfl)
theorem dX1_sendData_92 : decode cX1_sendData 92 = .ok (.aload 7, 2) := dk_25 7 (dk_at dksX1_sendData_3 20 rfl rfl)
theorem dX1_sendData_94 : decode cX1_sendData 94 = .ok (.getfield 126, 3) := dk_180 0 126 (dk_at dksX1_sendData_4 0 rfl rfl)
theorem dX1_sendData_97 : decode cX1_sendData 97 = .ok (.iastore, 1) := dk_79 (dk_at dksX1_sendData_4 3 rfl rfl)
theorem dX1_sendData_98 : decode cX1_sendData 98 = .ok (.dup, 1) := dk_89 (dk_at dksX1_sendData_4 4 rfl rfl)
theorem dX1_sendData_99 : decode cX1_sendData 99 = .ok (.iconst 2, 1) := dk_5 (dk_at dksX1_sendData_4 5 rfl rfl)
theorem dX1_sendData_100 : decode cX1_sendData 100 = .ok (.iload_n 3, 1) := dk_29 (dk_at dksX1_sendData_4 6 rfl rfl)
theorem dX1_sendData_101 : decode cX1_sendData 101 = .ok (.iastore, 1) := dk_79 (dk_at dksX1_sendData_4 7 rfl rfl)
theorem dX1_sendData_102 : decode cX1_sendData 102 = .ok (.dup, 1) := dk_89 (dk_at dksX1_sendData_4 8 rfl rfl)
theorem dX1_sendData_103 : decode cX1_sendData 103 = .ok (.iconst 3, 1) := dk_6 (dk_at dksX1_sendData_4 9 rfl rfl)
theorem dX1_sendData_104 : decode cX1_sendData 104 = .ok (.iload 4, 2) := dk_21 4 (dk_at dksX1_sendData_4 10 rfl rfl)
theorem dX1_sendData_106 : decode cX1_sendData 106 = .ok (.iastore, 1) := dk_79 (dk_at dksX1_sendData_4 12 rfl rfl)
theorem dX1_sendData_107 : decode cX1_sendData 107 = .ok (.dup, 1) := dk_89 (dk_at dksX1_sendData_4 13 rfl rfl)
theorem dX1_sendData_108 : decode cX1_sendData 108 = .ok (.iconst 4, 1) := dk_7 (dk_at dksX1_sendData_4 14 rfl rfl)
theorem dX1_sendData_109 : decode cX1_sendData 109 = .ok (.iload 5, 2) := dk_21 5 (dk_at dksX1_sendData_4 15 rfl rfl)
theorem dX1_sendData_111 : decode cX1_sendData 111 = .ok (.iastore, 1) := dk_79 (dk_at dksX1_sendData_4 17 rfl rfl)
theorem dX1_sendData_112 : decode cX1_sendData 112 = .ok (.dup, 1) := dk_89 (dk_at dksX1_sendData_4 18 rfl rfl)
theorem dX1_sendData_113 : decode cX1_sendData 113 = .ok (.iconst 5, 1) := dk_8 (dk_at dksX1_sendData_4 19 rfl rfl)
theorem dX1_sendData_114 : decode cX1_sendData 114 = .ok (.iload 8, 2) := dk_21 8 (dk_at dksX1_sendData_4 20 rfl rfl)
theorem dX1_sendData_116 : decode cX1_sendData 116 = .ok (.iastore, 1) := dk_79 (dk_at dksX1_sendData_4 22 rfl rfl)
theorem dX1_sendData_117 : decode cX1_sendData 117 = .ok (.invokevirtual 332, 3) := dk_182 1 76 (dk_at dksX1_sendData_5 0 rfl rfl)
theorem dX1_sendData_120 : decode cX1_sendData 120 = .ok (.aload 7, 2) := dk_25 7 (dk_at dksX1_sendData_5 3 rfl rfl)
theorem dX1_sendData_122 : decode cX1_sendData 122 = .ok (.dup, 1) := dk_89 (dk_at dksX1_sendData_5 5 rfl rfl)
theorem dX1_sendData_123 : decode cX1_sendData 123 = .ok (.getfield 126, 3) := dk_180 0 126 (dk_at dksX1_sendData_5 6 rfl rfl)
theorem dX1_sendData_126 : decode cX1_sendData 126 = .ok (.iconst 1, 1) := dk_4 (dk_at dksX1_sendData_5 9 rfl rfl)
theorem dX1_sendData_127 : decode cX1_sendData 127 = .ok (.iadd, 1) := dk_96 (dk_at dksX1_sendData_5 10 rfl rfl)
theorem dX1_sendData_128 : decode cX1_sendData 128 = .ok (.putfield 126, 3) := dk_181 0 126 (dk_at dksX1_sendData_5 11 rfl rfl)
theorem dX1_sendData_131 : decode cX1_sendData 131 = .ok (.return_, 1) := dk_177 (dk_at dksX1_sendData_5 14 rfl rfl)
abbrev cX1_post : ByteArray := prog_1_method_49_code
def yX1_post : MethodName := ⟨RX1, "post", "(IIII[I)V"⟩
def dkwX1_post_1 : List UInt8 := [27, 46, 28, 29, 21, 4, 25, 5, 183, 1, 133, 182, 0, 42, 87, 177]
abbrev dktX1_post_1 : List UInt8 := dkwX1_post_1 ++ []
def dkwX1_post_0 : List UInt8 := [42, 180, 0, 31, 182, 0, 174, 16, 60, 162, 0, 30, 42, 180, 0, 31, 187, 0, 162, 89, 42, 180, 0, 7]
abbrev dktX1_post_0 : List UInt8 := dkwX1_post_0 ++ dktX1_post_1
theorem dksX1_post_0 : cX1_post.data.toList.drop 0 = dktX1_post_0 := by decide +kernel
theorem dksX1_post_1 : cX1_post.data.toList.drop 24 = dktX1_post_1 := dk_seg dksX1_post_0 24 rfl rfl
theorem dX1_post_0 : decode cX1_post 0 = .ok (.aload_n 0, 1) := dk_42 (dk_at dksX1_post_0 0 rfl rfl)
theorem dX1_post_1 : decode cX1_post 1 = .ok (.getfield 31, 3) := dk_180 0 31 (dk_at dksX1_post_0 1 rfl rfl)
theorem dX1_post_4 : decode cX1_post 4 = .ok (.invokevirtual 174, 3) := dk_182 0 174 (dk_at dksX1_post_0 4 rfl rfl)
theorem dX1_post_7 : decode cX1_post 7 = .ok (.bipush 60, 2) := dk_16 60 (dk_at dksX1_post_0 7 rfl rfl)
theorem dX1_post_9 : decode cX1_post 9 = .ok (.if_icmp .ge 30, 3) := dk_162 0 30 (dk_at dksX1_post_0 9 rfl rfl)
theorem dX1_post_12 : decode cX1_post 12 = .ok (.aload_n 0, 1) := dk_42 (dk_at dksX1_post_0 12 rfl rfl)
theorem dX1_post_13 : decode cX1_post 13 = .ok (.getfield 31, 3) := dk_180 0 31 (dk_at dksX1_post_0 13 rfl rfl)
theorem dX1_post_16 : decode cX1_post 16 = .ok (.new 162, 3) := dk_187 0 162 (dk_at dksX1_post_0 16 rfl rfl)
theorem dX1_post_19 : decode cX1_post 19 = .ok (.dup, 1) := dk_89 (dk_at dksX1_post_0 19 rfl rfl)
theorem dX1_post_20 : decode cX1_post 20 = .ok (.aload_n 0, 1) := dk_42 (dk_at dksX1_post_0 20 rfl rfl)
theorem dX1_post_21 : decode cX1_post 21 = .ok (.getfield 7, 3) := dk_180 0 7 (dk_at dksX1_post_0 21 rfl rfl)
theorem dX1_post_24 : decode cX1_post 24 = .ok (.iload_n 1, 1) := dk_27 (dk_at dksX1_post_1 0 rfl rfl)
theorem dX1_post_25 : decode cX1_post 25 = .ok (.iaload, 1) := dk_46 (dk_at dksX1_post_1 1 rfl rfl)
theorem dX1_post_26 : decode cX1_post 26 = .ok (.iload_n 2, 1) := dk_28 (dk_at dksX1_post_1 2 rfl rfl)
theorem dX1_post_27 : decode cX1_post 27 = .ok (.iload_n 3, 1) := dk_29 (dk_at dksX1_post_1 3 rfl rfl)
theorem dX1_post_28 : decode cX1_post 28 = .ok (.iload 4, 2) := dk_21 4 (dk_at dksX1_post_1 4 rfl rfl)
theorem dX1_post_30 : decode cX1_post 30 = .ok (.aload 5, 2) := dk_25 5 (dk_at dksX1_post_1 6 rfl rfl)
theorem dX1_post_32 : decode cX1_post 32 = .ok (.invokespecial 389, 3) := dk_183 1 133 (dk_at dksX1_post_1 8 rfl rfl)
theorem dX1_post_35 : decode cX1_post 35 = .ok (.invokevirtual 42, 3) := dk_182 0 42 (dk_at dksX1_post_1 11 rfl rfl)
theorem dX1_post_38 : decode cX1_post 38 = .ok (.pop, 1) := dk_87 (dk_at dksX1_post_1 14 rfl rfl)
theorem dX1_post_39 : decode cX1_post 39 = .ok (.return_, 1) := dk_177 (dk_at dksX1_post_1 15 rfl rfl)
abbrev cX1_isFresh : ByteArray := prog_1_method_52_code
def yX1_isFresh : MethodName := ⟨RX1, "isFresh", "(LBurrowline$Side;)Z"⟩
def dkwX1_isFresh_1 : List UInt8 := [167, 0, 4, 3, 172]
abbrev dktX1_isFresh_1 : List UInt8 := dkwX1_isFresh_1 ++ []
def dkwX1_isFresh_0 : List UInt8 := [43, 180, 0, 146, 198, 0, 23, 42, 180, 0, 58, 43, 180, 0, 146, 180, 1, 136, 100, 8, 162, 0, 7, 4]
abbrev dktX1_isFresh_0 : List UInt8 := dkwX1_isFresh_0 ++ dktX1_isFresh_1
theorem dksX1_isFresh_0 : cX1_isFresh.data.toList.drop 0 = dktX1_isFresh_0 := by decide +kernel
theorem dksX1_isFresh_1 : cX1_isFresh.data.toList.drop 24 = dktX1_isFresh_1 := dk_seg dksX1_isFresh_0 24 rfl rfl
theorem dX1_isFresh_0 : decode cX1_isFresh 0 = .ok (.aload_n 1, 1) := dk_43 (dk_at dksX1_isFresh_0 0 rfl rfl)
theorem dX1_isFresh_1 : decode cX1_isFresh 1 = .ok (.getfield 146, 3) := dk_180 0 146 (dk_at dksX1_isFresh_0 1 rfl rfl)
theorem dX1_isFresh_4 : decode cX1_isFresh 4 = .ok (.ifnull 23, 3) := dk_198 0 23 (dk_at dksX1_isFresh_0 4 rfl rfl)
theorem dX1_isFresh_7 : decode cX1_isFresh 7 = .ok (.aload_n 0, 1) := dk_42 (dk_at dksX1_isFresh_0 7 rfl rfl)
theorem dX1_isFresh_8 : decode cX1_isFresh 8 = .ok (.getfield 58, 3) := dk_180 0 58 (dk_at dksX1_isFresh_0 8 rfl rfl)
theorem dX1_isFresh_11 : decode cX1_isFresh 11 = .ok (.aload_n 1, 1) := dk_43 (dk_at dksX1_isFresh_0 11 rfl rfl)
theorem dX1_isFresh_12 : decode cX1_isFresh 12 = .ok (.getfield 146, 3) := dk_180 0 146 (dk_at dksX1_isFresh_0 12 rfl rfl)
theorem dX1_isFresh_15 : decode cX1_isFresh 15 = .ok (.getfield 392, 3) := dk_180 1 136 (dk_at dksX1_isFresh_0 15 rfl rfl)
theorem dX1_isFresh_18 : decode cX1_isFresh 18 = .ok (.isub, 1) := dk_100 (dk_at dksX1_isFresh_0 18 rfl rfl)
theorem dX1_isFresh_19 : decode cX1_isFresh 19 = .ok (.iconst 5, 1) := dk_8 (dk_at dksX1_isFresh_0 19 rfl rfl)
theorem dX1_isFresh_20 : decode cX1_isFresh 20 = .ok (.if_icmp .ge 7, 3) := dk_162 0 7 (dk_at dksX1_isFresh_0 20 rfl rfl)
theorem dX1_isFresh_23 : decode cX1_isFresh 23 = .ok (.iconst 1, 1) := dk_4 (dk_at dksX1_isFresh_0 23 rfl rfl)
theorem dX1_isFresh_24 : decode cX1_isFresh 24 = .ok (.goto 4, 3) := dk_167 0 4 (dk_at dksX1_isFresh_1 0 rfl rfl)
theorem dX1_isFresh_27 : decode cX1_isFresh 27 = .ok (.iconst 0, 1) := dk_3 (dk_at dksX1_isFresh_1 3 rfl rfl)
theorem dX1_isFresh_28 : decode cX1_isFresh 28 = .ok (.ireturn, 1) := dk_172 (dk_at dksX1_isFresh_1 4 rfl rfl)
abbrev cX1_sendHello : ByteArray := prog_1_method_46_code
def yX1_sendHello : MethodName := ⟨RX1, "sendHello", "(II)V"⟩
def dkwX1_sendHello_10 : List UInt8 := [21, 4, 21, 8, 21, 9, 42, 180, 0, 58, 183, 1, 127, 181, 0, 146, 177]
abbrev dktX1_sendHello_10 : List UInt8 := dkwX1_sendHello_10 ++ []
def dkwX1_sendHello_9 : List UInt8 := [79, 89, 8, 21, 10, 79, 182, 1, 76, 45, 21, 7, 181, 0, 253, 45, 187, 0, 151, 89, 42, 180, 1, 83]
abbrev dktX1_sendHello_9 : List UInt8 := dkwX1_sendHello_9 ++ dktX1_sendHello_10
def dkwX1_sendHello_8 : List UInt8 := [42, 180, 1, 83, 79, 89, 4, 21, 5, 79, 89, 5, 21, 6, 79, 89, 6, 21, 7, 79, 89, 7, 21, 9]
abbrev dktX1_sendHello_8 : List UInt8 := dkwX1_sendHello_8 ++ dktX1_sendHello_9
def dkwX1_sendHello_7 : List UInt8 := [184, 1, 69, 167, 0, 4, 3, 54, 10, 42, 27, 45, 180, 0, 218, 4, 21, 8, 16, 6, 188, 10, 89, 3]
abbrev dktX1_sendHello_7 : List UInt8 := dkwX1_sendHello_7 ++ dktX1_sendHello_8
def dkwX1_sendHello_6 : List UInt8 := [153, 0, 28, 6, 188, 10, 89, 3, 5, 79, 89, 4, 45, 180, 0, 250, 79, 89, 5, 21, 9, 79]
abbrev dktX1_sendHello_6 : List UInt8 := dkwX1_sendHello_6 ++ dktX1_sendHello_7
def dkwX1_sendHello_5 : List UInt8 := [21, 5, 79, 89, 6, 21, 6, 79, 89, 7, 21, 7, 79, 184, 1, 24, 54, 9, 42, 45, 182, 0, 247]
abbrev dktX1_sendHello_5 : List UInt8 := dkwX1_sendHello_5 ++ dktX1_sendHello_6
def dkwX1_sendHello_4 : List UInt8 := [184, 1, 69, 54, 8, 21, 8, 8, 188, 10, 89, 3, 4, 79, 89, 4, 42, 180, 1, 83, 79, 89, 5]
abbrev dktX1_sendHello_4 : List UInt8 := dkwX1_sendHello_4 ++ dktX1_sendHello_5
def dkwX1_sendHello_3 : List UInt8 := [28, 184, 1, 73, 21, 4, 184, 1, 13, 79, 89, 5, 28, 184, 1, 73, 27, 184, 1, 80, 184, 1, 13, 79]
abbrev dktX1_sendHello_3 : List UInt8 := dkwX1_sendHello_3 ++ dktX1_sendHello_4
def dkwX1_sendHello_2 : List UInt8 := [180, 0, 58, 104, 45, 180, 0, 253, 4, 96, 184, 1, 124, 54, 7, 6, 188, 10, 89, 3, 4, 79, 89, 4]
abbrev dktX1_sendHello_2 : List UInt8 := dkwX1_sendHello_2 ++ dktX1_sendHello_3
def dkwX1_sendHello_1 : List UInt8 := [184, 1, 86, 54, 4, 16, 7, 21, 4, 184, 1, 13, 54, 5, 16, 10, 27, 104, 28, 96, 54, 6, 7, 42]
abbrev dktX1_sendHello_1 : List UInt8 := dkwX1_sendHello_1 ++ dktX1_sendHello_2
def dkwX1_sendHello_0 : List UInt8 := [42, 180, 0, 25, 27, 50, 28, 50, 78, 42, 89, 180, 1, 83, 4, 96, 181, 1, 83, 42, 180, 1, 83]
abbrev dktX1_sendHello_0 : List UInt8 := dkwX1_sendHello_0 ++ dktX1_sendHello_1
theorem dksX1_sendHello_0 : cX1_sendHello.data.toList.drop 0 = dktX1_sendHello_0 := by decide +kernel
theorem dksX1_sendHello_1 : cX1_sendHello.data.toList.drop 23 = dktX1_sendHello_1 := dk_seg dksX1_sendHello_0 23 rfl rfl
theorem dksX1_sendHello_2 : cX1_sendHello.data.toList.drop 47 = dktX1_sendHello_2 := dk_seg dksX1_sendHello_1 24 rfl rfl
theorem dksX1_sendHello_3 : cX1_sendHello.data.toList.drop 71 = dktX1_sendHello_3 := dk_seg dksX1_sendHello_2 24 rfl rfl
theorem dksX1_sendHello_4 : cX1_sendHello.data.toList.drop 95 = dktX1_sendHello_4 := dk_seg dksX1_sendHello_3 24 rfl rfl
theorem dksX1_sendHello_5 : cX1_sendHello.data.toList.drop 118 = dktX1_sendHello_5 := dk_seg dksX1_sendHello_4 23 rfl rfl
theorem dksX1_sendHello_6 : cX1_sendHello.data.toList.drop 141 = dktX1_sendHello_6 := dk_seg dksX1_sendHello_5 23 rfl rfl
theorem dksX1_sendHello_7 : cX1_sendHello.data.toList.drop 163 = dktX1_sendHello_7 := dk_seg dksX1_sendHello_6 22 rfl rfl
theorem dksX1_sendHello_8 : cX1_sendHello.data.toList.drop 187 = dktX1_sendHello_8 := dk_seg dksX1_sendHello_7 24 rfl rfl
theorem dksX1_sendHello_9 : cX1_sendHello.data.toList.drop 211 = dktX1_sendHello_9 := dk_seg dksX1_sendHello_8 24 rfl rfl
theorem dksX1_sendHello_10 : cX1_sendHello.data.toList.drop 235 = dktX1_sendHello_10 := dk_seg dksX1_sendHello_9 24 rfl rfl
theorem dX1_sendHello_0 : decode cX1_sendHello 0 = .ok (.aload_n 0, 1) := dk_42 (dk_at dksX1_sendHello_0 0 rfl rfl)
theorem dX1_sendHello_1 : decode cX1_sendHello 1 = .ok (.getfield 25, 3) := dk_180 0 25 (dk_at dksX1_sendHello_0 1 rfl rfl)
theorem dX1_sendHello_4 : decode cX1_sendHello 4 = .ok (.iload_n 1, 1) := dk_27 (dk_at dksX1_sendHello_0 4 rfl rfl)
theorem dX1_sendHello_5 : decode cX1_sendHello 5 = .ok (.aaload, 1) := dk_50 (dk_at dksX1_sendHello_0 5 rfl rfl)
theorem dX1_sendHello_6 : decode cX1_sendHello 6 = .ok (.iload_n 2, 1) := dk_28 (dk_at dksX1_sendHello_0 6 rfl rfl)
theorem dX1_sendHello_7 : decode cX1_sendHello 7 = .ok (.aaload, 1) := dk_50 (dk_at dksX1_sendHello_0 7 rfl rfl)
theorem dX1_sendHello_8 : decode cX1_sendHello 8 = .ok (.astore_n 3, 1) := dk_78 (dk_at dksX1_sendHello_0 8 rfl rfl)
theorem dX1_sendHello_9 : decode cX1_sendHello 9 = .ok (.aload_n 0, 1) := dk_42 (dk_at dksX1_sendHello_0 9 rfl rfl)
theorem dX1_sendHello_10 : decode cX1_sendHello 10 = .ok (.dup, 1) := dk_89 (dk_at dksX1_sendHello_0 10 rfl rfl)
theorem dX1_sendHello_11 : decode cX1_sendHello 11 = .ok (.getfield 339, 3) := dk_180 1 83 (dk_at dksX1_sendHello_0 11 rfl rfl)
theorem dX1_sendHello_14 : decode cX1_sendHello 14 = .ok (.iconst 1, 1) := dk_4 (dk_at dksX1_sendHello_0 14 rfl rfl)
theorem dX1_sendHello_15 : decode cX1_sendHello 15 = .ok (.iadd, 1) := dk_96 (dk_at dksX1_sendHello_0 15 rfl rfl)
theorem dX1_sendHello_16 : decode cX1_sendHello 16 = .ok (.putfield 339, 3) := dk_181 1 83 (dk_at dksX1_sendHello_0 16 rfl rfl)
theorem dX1_sendHello_19 : decode cX1_sendHello 19 = .ok (.aload_n 0, 1) := dk_42 (dk_at dksX1_sendHello_0 19 rfl rfl)
theorem dX1_sendHello_20 : decode cX1_sendHello 20 = .ok (.getfield 339, 3) := dk_180 1 83 (dk_at dksX1_sendHello_0 20 rfl rfl)
theorem dX1_sendHello_23 : decode cX1_sendHello 23 = .ok (.invokestatic 342, 3) := dk_184 1 86 (dk_at dksX1_sendHello_1 0 rfl rfl)
theorem dX1_sendHello_26 : decode cX1_sendHello 26 = .ok (.istore 4, 2) := dk_54 4 (dk_at dksX1_sendHello_1 3 rfl rfl)
theorem dX1_sendHello_28 : decode cX1_sendHello 28 = .ok (.bipush 7, 2) := dk_16 7 (dk_at dksX1_sendHello_1 5 rfl rfl)
theorem dX1_sendHello_30 : decode cX1_sendHello 30 = .ok (.iload 4, 2) := dk_21 4 (dk_at dksX1_sendHello_1 7 rfl rfl)
theorem dX1_sendHello_32 : decode cX1_sendHello 32 = .ok (.invokestatic 269, 3) := dk_184 1 13 (dk_at dksX1_sendHello_1 9 rfl rfl)
theorem dX1_sendHello_35 : decode cX1_sendHello 35 = .ok (.istore 5, 2) := dk_54 5 (dk_at dksX1_sendHello_1 12 rfl rfl)
theorem dX1_sendHello_37 : decode cX1_sendHello 37 = .ok (.bipush 10, 2) := dk_16 10 (dk_at dksX1_sendHello_1 14 rfl rfl)
theorem dX1_sendHello_39 : decode cX1_sendHello 39 = .ok (.iload_n 1, 1) := dk_27 (dk_at dksX1_sendHello_1 16 rfl rfl)
theorem dX1_sendHello_40 : decode cX1_sendHello 40 = .ok (.imul, 1) := dk_104 (dk_at dksX1_sendHello_1 17 rfl rfl)
theorem dX1_sendHello_41 : decode cX1_sendHello 41 = .ok (.iload_n 2, 1) := dk_28 (dk_at dksX1_sendHello_1 18 rfl rfl)
theorem dX1_sendHello_42 : decode cX1_sendHello 42 = .ok (.iadd, 1) := dk_96 (dk_at dksX1_sendHello_1 19 rfl rfl)
theorem dX1_sendHello_43 : decode cX1_sendHello 43 = .ok (.istore 6, 2) := dk_54 6 (dk_at dksX1_sendHello_1 20 rfl rfl)
theorem dX1_sendHello_45 : decode cX1_sendHello 45 = .ok (.iconst 4, 1) := dk_7 (dk_at dksX1_sendHello_1 22 rfl rfl)
theorem dX1_sendHello_46 : decode cX1_sendHello 46 = .ok (.aload_n 0, 1) := dk_42 (dk_at dksX1_sendHello_1 23 rfl rfl)
theorem dX1_sendHello_47 : decode cX1_sendHello 47 = .ok (.getfield 58, 3) := dk_180 0 58 (dk_at dksX1_sendHello_2 0 rfl rfl)
theorem dX1_sendHello_50 : decode cX1_sendHello 50 = .ok (.imul, 1) := dk_104 (dk_at dksX1_sendHello_2 3 rfl rfl)
theorem dX1_sendHello_51 : decode cX1_sendHello 51 = .ok (.aload_n 3, 1) := dk_45 (dk_at dksX1_sendHello_2 4 rfl rfl)
theorem dX1_sendHello_52 : decode cX1_sendHello 52 = .ok (.getfield 253, 3) := dk_180 0 253 (dk_at dksX1_sendHello_2 5 rfl rfl)
theorem dX1_sendHello_55 : decode cX1_sendHello 55 = .ok (.iconst 1, 1) := dk_4 (dk_at dksX1_sendHello_2 8 rfl rfl)
theorem dX1_sendHello_56 : decode cX1_sendHello 56 = .ok (.iadd, 1) := dk_96 (dk_at dksX1_sendHello_2 9 rfl rfl)
theorem dX1_sendHello_57 : decode cX1_sendHello 57 = .ok (.invokestatic 380, 3) := dk_184 1 124 (dk_at dksX1_sendHello_2 10 rfl rfl)
theorem dX1_sendHello_60 : decode cX1_sendHello 60 = .ok (.istore 7, 2) := dk_54 7 (dk_at dksX1_sendHello_2 13 rfl rfl)
theorem dX1_sendHello_62 : decode cX1_sendHello 62 = .ok (.iconst 3, 1) := dk_6 (dk_at dksX1_sendHello_2 15 rfl rfl)
theorem dX1_sendHello_63 : decode cX1_sendHello 63 = .ok (.newarray .int, 2) := dk_188_10 (dk_at dksX1_sendHello_2 16 rfl rfl)
theorem dX1_sendHello_65 : decode cX1_sendHello 65 = .ok (.dup, 1) := dk_89 (dk_at dksX1_sendHello_2 18 rfl rfl)
theorem dX1_sendHello_66 : decode cX1_sendHello 66 = .ok (.iconst 0, 1) := dk_3 (dk_at dksX1_sendHello_2 19 rfl rfl)
theorem dX1_sendHello_67 : decode cX1_sendHello 67 = .ok (.iconst 1, 1) := dk_4 (dk_at dksX1_sendHello_2 20 rfl rfl)
theorem dX1_sendHello_68 : decode cX1_sendHello 68 = .ok (.iastore, 1) := dk_79 (dk_at dksX1_sendHello_2 21 rfl rfl)
theorem dX1_sendHello_69 : decode cX1_sendHello 69 = .ok (.dup, 1) := dk_89 (dk_at dksX1_sendHello_2 22 rfl rfl)
theorem dX1_sendHello_70 : decode cX1_sendHello 70 = .ok (.iconst 1, 1) := dk_4 (dk_at dksX1_sendHello_2 23 rfl rfl)
theorem dX1_sendHello_71 : decode cX1_sendHello 71 = .ok (.iload_n 2, 1) := dk_28 (dk_at dksX1_sendHello_3 0 rfl rfl)
theorem dX1_sendHello_72 : decode cX1_sendHello 72 = .ok (.invokestatic 329, 3) := dk_184 1 73 (dk_at dksX1_sendHello_3 1 rfl rfl)
theorem dX1_sendHello_75 : decode cX1_sendHello 75 = .ok (.iload 4, 2) := dk_21 4 (dk_at dksX1_sendHello_3 4 rfl rfl)
theorem dX1_sendHello_77 : decode cX1_sendHello 77 = .ok (.invokestatic 269, 3) := dk_184 1 13 (dk_at dksX1_sendHello_3 6 rfl rfl)
theorem dX1_sendHello_80 : decode cX1_sendHello 80 = .ok (.iastore, 1) := dk_79 (dk_at dksX1_sendHello_3 9 rfl rfl)
theorem dX1_sendHello_81 : decode cX1_sendHello 81 = .ok (.dup, 1) := dk_89 (dk_at dksX1_sendHello_3 10 rfl rfl)
theorem dX1_sendHello_82 : decode cX1_sendHello 82 = .ok (.iconst 2, 1) := dk_5 (dk_at dksX1_sendHello_3 11 rfl rfl)
theorem dX1_sendHello_83 : decode cX1_sendHello 83 = .ok (.iload_n 2, 1) := dk_28 (dk_at dksX1_sendHello_3 12 rfl rfl)
theorem dX1_sendHello_84 : decode cX1_sendHello 84 = .ok (.invokestatic 329, 3) := dk_184 1 73 (dk_at dksX1_sendHello_3 13 rfl rfl)
theorem dX1_sendHello_87 : decode cX1_sendHello 87 = .ok (.iload_n 1, 1) := dk_27 (dk_at dksX1_sendHello_3 16 rfl rfl)
theorem dX1_sendHello_88 : decode cX1_sendHello 88 = .ok (.invokestatic 336, 3) := dk_184 1 80 (dk_at dksX1_sendHello_3 17 rfl rfl)
theorem dX1_sendHello_91 : decode cX1_sendHello 91 = .ok (.invokestatic 269, 3) := dk_184 1 13 (dk_at dksX1_sendHello_3 20 rfl rfl)
theorem dX1_sendHello_94 : decode cX1_sendHello 94 = .ok (.iastore, 1) := dk_79 (dk_at dksX1_sendHello_3 23 rfl rfl)
theorem dX1_sendHello_95 : decode cX1_sendHello 95 = .ok (.invokestatic 325, 3) := dk_184 1 69 (dk_at dksX1_sendHello_4 0 rfl rfl)
theorem dX1_sendHello_98 : decode cX1_sendHello 98 = .ok (.istore 8, 2) := dk_54 8 (dk_at dksX1_sendHello_4 3 rfl rfl)
theorem dX1_sendHello_100 : decode cX1_sendHello 100 = .ok (.iload 8, 2) := dk_21 8 (dk_at dksX1_sendHello_4 5 rfl rfl)
theorem dX1_sendHello_102 : decode cX1_sendHello 102 = .ok (.iconst 5, 1) := dk_8 (dk_at dksX1_sendHello_4 7 rfl rfl)
theorem dX1_sendHello_103 : decode cX1_sendHello 103 = .ok (.newarray .int, 2) := dk_188_10 (dk_at dksX1_sendHello_4 8 rfl rfl)
theorem dX1_sendHello_105 : decode cX1_sendHello 105 = .ok (.dup, 1) := dk_89 (dk_at dksX1_sendHello_4 10 rfl rfl)
theorem dX1_sendHello_106 : decode cX1_sendHello 106 = .ok (.iconst 0, 1) := dk_3 (dk_at dksX1_sendHello_4 11 rfl rfl)
theorem dX1_sendHello_107 : decode cX1_sendHello 107 = .ok (.iconst 1, 1) := dk_4 (dk_at dksX1_sendHello_4 12 rfl rfl)
theorem dX1_sendHello_108 : decode cX1_sendHello 108 = .ok (.iastore, 1) := dk_79 (dk_at dksX1_sendHello_4 13 rfl rfl)
theorem dX1_sendHello_109 : decode cX1_sendHello 109 = .ok (.dup, 1) := dk_89 (dk_at dksX1_sendHello_4 14 rfl rfl)
theorem dX1_sendHello_110 : decode cX1_sendHello 110 = .ok (.iconst 1, 1) := dk_4 (dk_at dksX1_sendHello_4 15 rfl rfl)
theorem dX1_sendHello_111 : decode cX1_sendHello 111 = .ok (.aload_n 0, 1) := dk_42 (dk_at dksX1_sendHello_4 16 rfl rfl)
theorem dX1_sendHello_112 : decode cX1_sendHello 112 = .ok (.getfield 339, 3) := dk_180 1 83 (dk_at dksX1_sendHello_4 17 rfl rfl)
theorem dX1_sendHello_115 : decode cX1_sendHello 115 = .ok (.iastore, 1) := dk_79 (dk_at dksX1_sendHello_4 20 rfl rfl)
theorem dX1_sendHello_116 : decode cX1_sendHello 116 = .ok (.dup, 1) := dk_89 (dk_at dksX1_sendHello_4 21 rfl rfl)
theorem dX1_sendHello_117 : decode cX1_sendHello 117 = .ok (.iconst 2, 1) := dk_5 (dk_at dksX1_sendHello_4 22 rfl rfl)
theorem dX1_sendHello_118 : decode cX1_sendHello 118 = .ok (.iload 5, 2) := dk_21 5 (dk_at dksX1_sendHello_5 0 rfl rfl)
theorem dX1_sendHello_120 : decode cX1_sendHello 120 = .ok (.iastore, 1) := dk_79 (dk_at dksX1_sendHello_5 2 rfl rfl)
theorem dX1_sendHello_121 : decode cX1_sendHello 121 = .ok (.dup, 1) := dk_89 (dk_at dksX1_sendHello_5 3 rfl rfl)
theorem dX1_sendHello_122 : decode cX1_sendHello 122 = .ok (.iconst 3, 1) := dk_6 (dk_at dksX1_sendHello_5 4 rfl rfl)
theorem dX1_sendHello_123 : decode cX1_sendHello 123 = .ok (.iload 6, 2) := dk_21 6 (dk_at dksX1_sendHello_5 5 rfl rfl)
theorem dX1_sendHello_125 : decode cX1_sendHello 125 = .ok (.iastore, 1) := dk_79 (dk_at dksX1_sendHello_5 7 rfl rfl)
theorem dX1_sendHello_126 : decode cX1_sendHello 126 = .ok (.dup, 1) := dk_89 (dk_at dksX1_sendHello_5 8 rfl rfl)
theorem dX1_sendHello_127 : decode cX1_sendHello 127 = .ok (.iconst 4, 1) := dk_7 (dk_at dksX1_sendHello_5 9 rfl rfl)
theorem dX1_sendHello_128 : decode cX1_sendHello 128 = .ok (.iload 7, 2) := dk_21 7 (dk_at dksX1_sendHello_5 10 rfl rfl)
theorem dX1_sendHello_130 : decode cX1_sendHello 130 = .ok (.iastore, 1) := dk_79 (dk_at dksX1_sendHello_5 12 rfl rfl)
theorem dX1_sendHello_131 : decode cX1_sendHello 131 = .ok (.invokestatic 280, 3) := dk_184 1 24 (dk_at dksX1_sendHello_5 13 rfl rfl)
theorem dX1_sendHello_134 : decode cX1_sendHello 134 = .ok (.istore 9, 2) := dk_54 9 (dk_at dksX1_sendHello_5 16 rfl rfl)
theorem dX1_sendHello_136 : decode cX1_sendHello 136 = .ok (.aload_n 0, 1) := dk_42 (dk_at dksX1_sendHello_5 18 rfl rfl)
theorem dX1_sendHello_137 : decode cX1_sendHello 137 = .ok (.aload_n 3, 1) := dk_45 (dk_at dksX1_sendHello_5 19 rfl rfl)
theorem dX1_sendHello_138 : decode cX1_sendHello 138 = .ok (.invokevirtual 247, 3) := dk_182 0 247 (dk_at dksX1_sendHello_5 20 rfl rfl)
theorem dX1_sendHello_141 : decode cX1_sendHello 141 = .ok (.ifCond .eq 28, 3) := dk_153 0 28 (dk_at dksX1_sendHello_6 0 rfl rfl)
theorem dX1_sendHello_144 : decode cX1_sendHello 144 = .ok (.iconst 3, 1) := dk_6 (dk_at dksX1_sendHello_6 3 rfl rfl)
theorem dX1_sendHello_145 : decode cX1_sendHello 145 = .ok (.newarray .int, 2) := dk_188_10 (dk_at dksX1_sendHello_6 4 rfl rfl)
theorem dX1_sendHello_147 : decode cX1_sendHello 147 = .ok (.dup, 1) := dk_89 (dk_at dksX1_sendHello_6 6 rfl rfl)
theorem dX1_sendHello_148 : decode cX1_sendHello 148 = .ok (.iconst 0, 1) := dk_3 (dk_at dksX1_sendHello_6 7 rfl rfl)
theorem dX1_sendHello_149 : decode cX1_sendHello 149 = .ok (.iconst 2, 1) := dk_5 (dk_at dksX1_sendHello_6 8 rfl rfl)
theorem dX1_sendHello_150 : decode cX1_sendHello 150 = .ok (.iastore, 1) := dk_79 (dk_at dksX1_sendHello_6 9 rfl rfl)
theorem dX1_sendHello_151 : decode cX1_sendHello 151 = .ok (.dup, 1) := dk_89 (dk_at dksX1_sendHello_6 10 rfl rfl)
theorem dX1_sendHello_152 : decode cX1_sendHello 152 = .ok (.iconst 1, 1) := dk_4 (dk_at dksX1_sendHello_6 11 rfl rfl)
theorem dX1_sendHello_153 : decode cX1_sendHello 153 = .ok (.aload_n 3, 1) := dk_45 (dk_at dksX1_sendHello_6 12 rfl rfl)
theorem dX1_sendHello_154 : decode cX1_sendHello 154 = .ok (.getfield 250, 3) := dk_180 0 250 (dk_at dksX1_sendHello_6 13 rfl rfl)
theorem dX1_sendHello_157 : decode cX1_sendHello 157 = .ok (.iastore, 1) := dk_79 (dk_at dksX1_sendHello_6 16 rfl rfl)
theorem dX1_sendHello_158 : decode cX1_sendHello 158 = .ok (.dup, 1) := dk_89 (dk_at dksX1_sendHello_6 17 rfl rfl)
theorem dX1_sendHello_159 : decode cX1_sendHello 159 = .ok (.iconst 2, 1) := dk_5 (dk_at dksX1_sendHello_6 18 rfl rfl)
theorem dX1_sendHello_160 : decode cX1_sendHello 160 = .ok (.iload 9, 2) := dk_21 9 (dk_at dksX1_sendHello_6 19 rfl rfl)
theorem dX1_sendHello_162 : decode cX1_sendHello 162 = .ok (.iastore, 1) := dk_79 (dk_at dksX1_sendHello_6 21 rfl rfl)
theorem dX1_sendHello_163 : decode cX1_sendHello 163 = .ok (.invokestatic 325, 3) := dk_184 1 69 (dk_at dksX1_sendHello_7 0 rfl rfl)
theorem dX1_sendHello_166 : decode cX1_sendHello 166 = .ok (.goto 4, 3) := dk_167 0 4 (dk_at dksX1_sendHello_7 3 rfl rfl)
theorem dX1_sendHello_169 : decode cX1_sendHello 169 = .ok (.iconst 0, 1) := dk_3 (dk_at dksX1_sendHello_7 6 rfl rfl)
theorem dX1_sendHello_170 : decode cX1_sendHello 170 = .ok (.istore 10, 2) := dk_54 10 (dk_at dksX1_sendHello_7 7 rfl rfl)
theorem dX1_sendHello_172 : decode cX1_sendHello 172 = .ok (.aload_n 0, 1) := dk_42 (dk_at dksX1_sendHello_7 9 rfl rfl)
theorem dX1_sendHello_173 : decode cX1_sendHello 173 = .ok (.iload_n 1, 1) := dk_27 (dk_at dksX1_sendHello_7 10 rfl rfl)
theorem dX1_sendHello_174 : decode cX1_sendHello 174 = .ok (.aload_n 3, 1) := dk_45 (dk_at dksX1_sendHello_7 11 rfl rfl)
theorem dX1_sendHello_175 : decode cX1_sendHello 175 = .ok (.getfield 218, 3) := dk_180 0 218 (dk_at dksX1_sendHello_7 12 rfl rfl)
theorem dX1_sendHello_178 : decode cX1_sendHello 178 = .ok (.iconst 1, 1) := dk_4 (dk_at dksX1_sendHello_7 15 rfl rfl)
theorem dX1_sendHello_179 : decode cX1_sendHello 179 = .ok (.iload 8, 2) := dk_21 8 (dk_at dksX1_sendHello_7 16 rfl rfl)
theorem dX1_sendHello_181 : decode cX1_sendHello 181 = .ok (.bipush 6, 2) := dk_16 6 (dk_at dksX1_sendHello_7 18 rfl rfl)
theorem dX1_sendHello_183 : decode cX1_sendHello 183 = .ok (.newarray .int, 2) := dk_188_10 (dk_at dksX1_sendHello_7 20 rfl rfl)
theorem dX1_sendHello_185 : decode cX1_sendHello 185 = .ok (.dup, 1) := dk_89 (dk_at dksX1_sendHello_7 22 rfl rfl)
theorem dX1_sendHello_186 : decode cX1_sendHello 186 = .ok (.iconst 0, 1) := dk_3 (dk_at dksX1_sendHello_7 23 rfl rfl)
theorem dX1_sendHello_187 : decode cX1_sendHello 187 = .ok (.aload_n 0, 1) := dk_42 (dk_at dksX1_sendHello_8 0 rfl rfl)
theorem dX1_sendHello_188 : decode cX1_sendHello 188 = .ok (.getfield 339, 3) := dk_180 1 83 (dk_at dksX1_sendHello_8 1 rfl rfl)
theorem dX1_sendHello_191 : decode cX1_sendHello 191 = .ok (.iastore, 1) := dk_79 (dk_at dksX1_sendHello_8 4 rfl rfl)
theorem dX1_sendHello_192 : decode cX1_sendHello 192 = .ok (.dup, 1) := dk_89 (dk_at dksX1_sendHello_8 5 rfl rfl)
theorem dX1_sendHello_193 : decode cX1_sendHello 193 = .ok (.iconst 1, 1) := dk_4 (dk_at dksX1_sendHello_8 6 rfl rfl)
theorem dX1_sendHello_194 : decode cX1_sendHello 194 = .ok (.iload 5, 2) := dk_21 5 (dk_at dksX1_sendHello_8 7 rfl rfl)
theorem dX1_sendHello_196 : decode cX1_sendHello 196 = .ok (.iastore, 1) := dk_79 (dk_at dksX1_sendHello_8 9 rfl rfl)
theorem dX1_sendHello_197 : decode cX1_sendHello 197 = .ok (.dup, 1) := dk_89 (dk_at dksX1_sendHello_8 10 rfl rfl)
theorem dX1_sendHello_198 : decode cX1_sendHello 198 = .ok (.iconst 2, 1) := dk_5 (dk_at dksX1_sendHello_8 11 rfl rfl)
theorem dX1_sendHello_199 : decode cX1_sendHello 199 = .ok (.iload 6, 2) := dk_21 6 (dk_at dksX1_sendHello_8 12 rfl rfl)
theorem dX1_sendHello_201 : decode cX1_sendHello 201 = .ok (.iastore, 1) := dk_79 (dk_at dksX1_sendHello_8 14 rfl rfl)
theorem dX1_sendHello_202 : decode cX1_sendHello 202 = .ok (.dup, 1) := dk_89 (dk_at dksX1_sendHello_8 15 rfl rfl)
theorem dX1_sendHello_203 : decode cX1_sendHello 203 = .ok (.iconst 3, 1) := dk_6 (dk_at dksX1_sendHello_8 16 rfl rfl)
theorem dX1_sendHello_204 : decode cX1_sendHello 204 = .ok (.iload 7, 2) := dk_21 7 (dk_at dksX1_sendHello_8 17 rfl rfl)
theorem dX1_sendHello_206 : decode cX1_sendHello 206 = .ok (.iastore, 1) := dk_79 (dk_at dksX1_sendHello_8 19 rfl rfl)
theorem dX1_sendHello_207 : decode cX1_sendHello 207 = .ok (.dup, 1) := dk_89 (dk_at dksX1_sendHello_8 20 rfl rfl)
theorem dX1_sendHello_208 : decode cX1_sendHello 208 = .ok (.iconst 4, 1) := dk_7 (dk_at dksX1_sendHello_8 21 rfl rfl)
theorem dX1_sendHello_209 : decode cX1_sendHello 209 = .ok (.iload 9, 2) := dk_21 9 (dk_at dksX1_sendHello_8 22 rfl rfl)
theorem dX1_sendHello_211 : decode cX1_sendHello 211 = .ok (.iastore, 1) := dk_79 (dk_at dksX1_sendHello_9 0 rfl rfl)
theorem dX1_sendHello_212 : decode cX1_sendHello 212 = .ok (.dup, 1) := dk_89 (dk_at dksX1_sendHello_9 1 rfl rfl)
theorem dX1_sendHello_213 : decode cX1_sendHello 213 = .ok (.iconst 5, 1) := dk_8 (dk_at dksX1_sendHello_9 2 rfl rfl)
theorem dX1_sendHello_214 : decode cX1_sendHello 214 = .ok (.iload 10, 2) := dk_21 10 (dk_at dksX1_sendHello_9 3 rfl rfl)
theorem dX1_sendHello_216 : decode cX1_sendHello 216 = .ok (.iastore, 1) := dk_79 (dk_at dksX1_sendHello_9 5 rfl rfl)
theorem dX1_sendHello_217 : decode cX1_sendHello 217 = .ok (.invokevirtual 332, 3) := dk_182 1 76 (dk_at dksX1_sendHello_9 6 rfl rfl)
theorem dX1_sendHello_220 : decode cX1_sendHello 220 = .ok (.aload_n 3, 1) := dk_45 (dk_at dksX1_sendHello_9 9 rfl rfl)
theorem dX1_sendHello_221 : decode cX1_sendHello 221 = .ok (.iload 7, 2) := dk_21 7 (dk_at dksX1_sendHello_9 10 rfl rfl)
theorem dX1_sendHello_223 : decode cX1_sendHello 223 = .ok (.putfield 253, 3) := dk_181 0 253 (dk_at dksX1_sendHello_9 12 rfl rfl)
theorem dX1_sendHello_226 : decode cX1_sendHello 226 = .ok (.aload_n 3, 1) := dk_45 (dk_at dksX1_sendHello_9 15 rfl rfl)
theorem dX1_sendHello_227 : decode cX1_sendHello 227 = .ok (.new 151, 3) := dk_187 0 151 (dk_at dksX1_sendHello_9 16 rfl rfl)
theorem dX1_sendHello_230 : decode cX1_sendHello 230 = .ok (.dup, 1) := dk_89 (dk_at dksX1_sendHello_9 19 rfl rfl)
theorem dX1_sendHello_231 : decode cX1_sendHello 231 = .ok (.aload_n 0, 1) := dk_42 (dk_at dksX1_sendHello_9 20 rfl rfl)
theorem dX1_sendHello_232 : decode cX1_sendHello 232 = .ok (.getfield 339, 3) := dk_180 1 83 (dk_at dksX1_sendHello_9 21 rfl rfl)
theorem dX1_sendHello_235 : decode cX1_sendHello 235 = .ok (.iload 4, 2) := dk_21 4 (dk_at dksX1_sendHello_10 0 rfl rfl)
theorem dX1_sendHello_237 : decode cX1_sendHello 237 = .ok (.iload 8, 2) := dk_21 8 (dk_at dksX1_sendHello_10 2 rfl rfl)
theorem dX1_sendHello_239 : decode cX1_sendHello 239 = .ok (.iload 9, 2) := dk_21 9 (dk_at dksX1_sendHello_10 4 rfl rfl)
theorem dX1_sendHello_241 : decode cX1_sendHello 241 = .ok (.aload_n 0, 1) := dk_42 (dk_at dksX1_sendHello_10 6 rfl rfl)
theorem dX1_sendHello_242 : decode cX1_sendHello 242 = .ok (.getfield 58, 3) := dk_180 0 58 (dk_at dksX1_sendHello_10 7 rfl rfl)
theorem dX1_sendHello_245 : decode cX1_sendHello 245 = .ok (.invokespecial 383, 3) := dk_183 1 127 (dk_at dksX1_sendHello_10 10 rfl rfl)
theorem dX1_sendHello_248 : decode cX1_sendHello 248 = .ok (.putfield 146, 3) := dk_181 0 146 (dk_at dksX1_sendHello_10 13 rfl rfl)
theorem dX1_sendHello_251 : decode cX1_sendHello 251 = .ok (.return_, 1) := dk_177 (dk_at dksX1_sendHello_10 16 rfl rfl)
abbrev cX1_drawn : ByteArray := prog_1_method_57_code
def yX1_drawn : MethodName := ⟨RX1, "drawn", "(I)I"⟩
def dkwX1_drawn_0 : List UInt8 := [4, 20, 1, 139, 26, 133, 105, 20, 1, 141, 113, 136, 96, 172]
abbrev dktX1_drawn_0 : List UInt8 := dkwX1_drawn_0 ++ []
theorem dksX1_drawn_0 : cX1_drawn.data.toList.drop 0 = dktX1_drawn_0 := by decide +kernel
theorem dX1_drawn_0 : decode cX1_drawn 0 = .ok (.iconst 1, 1) := dk_4 (dk_at dksX1_drawn_0 0 rfl rfl)
theorem dX1_drawn_1 : decode cX1_drawn 1 = .ok (.ldc2_w 395, 3) := dk_20 1 139 (dk_at dksX1_drawn_0 1 rfl rfl)
theorem dX1_drawn_4 : decode cX1_drawn 4 = .ok (.iload_n 0, 1) := dk_26 (dk_at dksX1_drawn_0 4 rfl rfl)
theorem dX1_drawn_5 : decode cX1_drawn 5 = .ok (.i2l, 1) := dk_133 (dk_at dksX1_drawn_0 5 rfl rfl)
theorem dX1_drawn_6 : decode cX1_drawn 6 = .ok (.lmul, 1) := dk_105 (dk_at dksX1_drawn_0 6 rfl rfl)
theorem dX1_drawn_7 : decode cX1_drawn 7 = .ok (.ldc2_w 397, 3) := dk_20 1 141 (dk_at dksX1_drawn_0 7 rfl rfl)
theorem dX1_drawn_10 : decode cX1_drawn 10 = .ok (.lrem, 1) := dk_113 (dk_at dksX1_drawn_0 10 rfl rfl)
theorem dX1_drawn_11 : decode cX1_drawn 11 = .ok (.l2i, 1) := dk_136 (dk_at dksX1_drawn_0 11 rfl rfl)
theorem dX1_drawn_12 : decode cX1_drawn 12 = .ok (.iadd, 1) := dk_96 (dk_at dksX1_drawn_0 12 rfl rfl)
theorem dX1_drawn_13 : decode cX1_drawn 13 = .ok (.ireturn, 1) := dk_172 (dk_at dksX1_drawn_0 13 rfl rfl)
abbrev cX1_power : ByteArray := prog_1_method_58_code
def yX1_power : MethodName := ⟨RX1, "power", "(II)I"⟩
def dkwX1_power_2 : List UInt8 := [167, 255, 221, 28, 172]
abbrev dktX1_power_2 : List UInt8 := dkwX1_power_2 ++ []
def dkwX1_power_1 : List UInt8 := [28, 29, 104, 17, 7, 247, 112, 61, 29, 29, 104, 17, 7, 247, 112, 62, 21, 4, 5, 108, 54, 4]
abbrev dktX1_power_1 : List UInt8 := dkwX1_power_1 ++ dktX1_power_2
def dkwX1_power_0 : List UInt8 := [4, 61, 26, 17, 7, 247, 112, 62, 27, 54, 4, 21, 4, 158, 0, 36, 21, 4, 5, 112, 4, 160, 0, 11]
abbrev dktX1_power_0 : List UInt8 := dkwX1_power_0 ++ dktX1_power_1
theorem dksX1_power_0 : cX1_power.data.toList.drop 0 = dktX1_power_0 := by decide +kernel
theorem dksX1_power_1 : cX1_power.data.toList.drop 24 = dktX1_power_1 := dk_seg dksX1_power_0 24 rfl rfl
theorem dksX1_power_2 : cX1_power.data.toList.drop 46 = dktX1_power_2 := dk_seg dksX1_power_1 22 rfl rfl
theorem dX1_power_0 : decode cX1_power 0 = .ok (.iconst 1, 1) := dk_4 (dk_at dksX1_power_0 0 rfl rfl)
theorem dX1_power_1 : decode cX1_power 1 = .ok (.istore_n 2, 1) := dk_61 (dk_at dksX1_power_0 1 rfl rfl)
theorem dX1_power_2 : decode cX1_power 2 = .ok (.iload_n 0, 1) := dk_26 (dk_at dksX1_power_0 2 rfl rfl)
theorem dX1_power_3 : decode cX1_power 3 = .ok (.sipush 2039, 3) := dk_17 7 247 (dk_at dksX1_power_0 3 rfl rfl)
theorem dX1_power_6 : decode cX1_power 6 = .ok (.irem, 1) := dk_112 (dk_at dksX1_power_0 6 rfl rfl)
theorem dX1_power_7 : decode cX1_power 7 = .ok (.istore_n 3, 1) := dk_62 (dk_at dksX1_power_0 7 rfl rfl)
theorem dX1_power_8 : decode cX1_power 8 = .ok (.iload_n 1, 1) := dk_27 (dk_at dksX1_power_0 8 rfl rfl)
theorem dX1_power_9 : decode cX1_power 9 = .ok (.istore 4, 2) := dk_54 4 (dk_at dksX1_power_0 9 rfl rfl)
theorem dX1_power_11 : decode cX1_power 11 = .ok (.iload 4, 2) := dk_21 4 (dk_at dksX1_power_0 11 rfl rfl)
theorem dX1_power_13 : decode cX1_power 13 = .ok (.ifCond .le 36, 3) := dk_158 0 36 (dk_at dksX1_power_0 13 rfl rfl)
theorem dX1_power_16 : decode cX1_power 16 = .ok (.iload 4, 2) := dk_21 4 (dk_at dksX1_power_0 16 rfl rfl)
theorem dX1_power_18 : decode cX1_power 18 = .ok (.iconst 2, 1) := dk_5 (dk_at dksX1_power_0 18 rfl rfl)
theorem dX1_power_19 : decode cX1_power 19 = .ok (.irem, 1) := dk_112 (dk_at dksX1_power_0 19 rfl rfl)
theorem dX1_power_20 : decode cX1_power 20 = .ok (.iconst 1, 1) := dk_4 (dk_at dksX1_power_0 20 rfl rfl)
theorem dX1_power_21 : decode cX1_power 21 = .ok (.if_icmp .ne 11, 3) := dk_160 0 11 (dk_at dksX1_power_0 21 rfl rfl)
theorem dX1_power_24 : decode cX1_power 24 = .ok (.iload_n 2, 1) := dk_28 (dk_at dksX1_power_1 0 rfl rfl)
theorem dX1_power_25 : decode cX1_power 25 = .ok (.iload_n 3, 1) := dk_29 (dk_at dksX1_power_1 1 rfl rfl)
theorem dX1_power_26 : decode cX1_power 26 = .ok (.imul, 1) := dk_104 (dk_at dksX1_power_1 2 rfl rfl)
theorem dX1_power_27 : decode cX1_power 27 = .ok (.sipush 2039, 3) := dk_17 7 247 (dk_at dksX1_power_1 3 rfl rfl)
theorem dX1_power_30 : decode cX1_power 30 = .ok (.irem, 1) := dk_112 (dk_at dksX1_power_1 6 rfl rfl)
theorem dX1_power_31 : decode cX1_power 31 = .ok (.istore_n 2, 1) := dk_61 (dk_at dksX1_power_1 7 rfl rfl)
theorem dX1_power_32 : decode cX1_power 32 = .ok (.iload_n 3, 1) := dk_29 (dk_at dksX1_power_1 8 rfl rfl)
theorem dX1_power_33 : decode cX1_power 33 = .ok (.iload_n 3, 1) := dk_29 (dk_at dksX1_power_1 9 rfl rfl)
theorem dX1_power_34 : decode cX1_power 34 = .ok (.imul, 1) := dk_104 (dk_at dksX1_power_1 10 rfl rfl)
theorem dX1_power_35 : decode cX1_power 35 = .ok (.sipush 2039, 3) := dk_17 7 247 (dk_at dksX1_power_1 11 rfl rfl)
theorem dX1_power_38 : decode cX1_power 38 = .ok (.irem, 1) := dk_112 (dk_at dksX1_power_1 14 rfl rfl)
theorem dX1_power_39 : decode cX1_power 39 = .ok (.istore_n 3, 1) := dk_62 (dk_at dksX1_power_1 15 rfl rfl)
theorem dX1_power_40 : decode cX1_power 40 = .ok (.iload 4, 2) := dk_21 4 (dk_at dksX1_power_1 16 rfl rfl)
theorem dX1_power_42 : decode cX1_power 42 = .ok (.iconst 2, 1) := dk_5 (dk_at dksX1_power_1 18 rfl rfl)
theorem dX1_power_43 : decode cX1_power 43 = .ok (.idiv, 1) := dk_108 (dk_at dksX1_power_1 19 rfl rfl)
theorem dX1_power_44 : decode cX1_power 44 = .ok (.istore 4, 2) := dk_54 4 (dk_at dksX1_power_1 20 rfl rfl)
theorem dX1_power_46 : decode cX1_power 46 = .ok (.goto (-35), 3) := dk_167 255 221 (dk_at dksX1_power_2 0 rfl rfl)
theorem dX1_power_49 : decode cX1_power 49 = .ok (.iload_n 2, 1) := dk_28 (dk_at dksX1_power_2 3 rfl rfl)
theorem dX1_power_50 : decode cX1_power 50 = .ok (.ireturn, 1) := dk_172 (dk_at dksX1_power_2 4 rfl rfl)
abbrev cX1_publicNumber : ByteArray := prog_1_method_56_code
def yX1_publicNumber : MethodName := ⟨RX1, "publicNumber", "(I)I"⟩
def dkwX1_publicNumber_0 : List UInt8 := [16, 7, 26, 184, 1, 80, 184, 1, 13, 172]
abbrev dktX1_publicNumber_0 : List UInt8 := dkwX1_publicNumber_0 ++ []
theorem dksX1_publicNumber_0 : cX1_publicNumber.data.toList.drop 0 = dktX1_publicNumber_0 := by decide +kernel
theorem dX1_publicNumber_0 : decode cX1_publicNumber 0 = .ok (.bipush 7, 2) := dk_16 7 (dk_at dksX1_publicNumber_0 0 rfl rfl)
theorem dX1_publicNumber_2 : decode cX1_publicNumber 2 = .ok (.iload_n 0, 1) := dk_26 (dk_at dksX1_publicNumber_0 2 rfl rfl)
theorem dX1_publicNumber_3 : decode cX1_publicNumber 3 = .ok (.invokestatic 336, 3) := dk_184 1 80 (dk_at dksX1_publicNumber_0 3 rfl rfl)
theorem dX1_publicNumber_6 : decode cX1_publicNumber 6 = .ok (.invokestatic 269, 3) := dk_184 1 13 (dk_at dksX1_publicNumber_0 6 rfl rfl)
theorem dX1_publicNumber_9 : decode cX1_publicNumber 9 = .ok (.ireturn, 1) := dk_172 (dk_at dksX1_publicNumber_0 9 rfl rfl)
abbrev cX1_secretOf : ByteArray := prog_1_method_55_code
def yX1_secretOf : MethodName := ⟨RX1, "secretOf", "(I)I"⟩
def dkwX1_secretOf_0 : List UInt8 := [17, 0, 211, 17, 1, 51, 26, 104, 96, 172]
abbrev dktX1_secretOf_0 : List UInt8 := dkwX1_secretOf_0 ++ []
theorem dksX1_secretOf_0 : cX1_secretOf.data.toList.drop 0 = dktX1_secretOf_0 := by decide +kernel
theorem dX1_secretOf_0 : decode cX1_secretOf 0 = .ok (.sipush 211, 3) := dk_17 0 211 (dk_at dksX1_secretOf_0 0 rfl rfl)
theorem dX1_secretOf_3 : decode cX1_secretOf 3 = .ok (.sipush 307, 3) := dk_17 1 51 (dk_at dksX1_secretOf_0 3 rfl rfl)
theorem dX1_secretOf_6 : decode cX1_secretOf 6 = .ok (.iload_n 0, 1) := dk_26 (dk_at dksX1_secretOf_0 6 rfl rfl)
theorem dX1_secretOf_7 : decode cX1_secretOf 7 = .ok (.imul, 1) := dk_104 (dk_at dksX1_secretOf_0 7 rfl rfl)
theorem dX1_secretOf_8 : decode cX1_secretOf 8 = .ok (.iadd, 1) := dk_96 (dk_at dksX1_secretOf_0 8 rfl rfl)
theorem dX1_secretOf_9 : decode cX1_secretOf 9 = .ok (.ireturn, 1) := dk_172 (dk_at dksX1_secretOf_0 9 rfl rfl)
abbrev cX1_mix : ByteArray := prog_1_method_59_code
def yX1_mix : MethodName := ⟨RX1, "mix", "([I)I"⟩
def dkwX1_mix_2 : List UInt8 := [154, 0, 7, 4, 167, 0, 4, 27, 172]
abbrev dktX1_mix_2 : List UInt8 := dkwX1_mix_2 ++ []
def dkwX1_mix_1 : List UInt8 := [16, 31, 27, 104, 21, 5, 96, 5, 96, 19, 1, 143, 184, 1, 144, 60, 132, 4, 1, 167, 255, 225, 27]
abbrev dktX1_mix_1 : List UInt8 := dkwX1_mix_1 ++ dktX1_mix_2
def dkwX1_mix_0 : List UInt8 := [16, 17, 60, 42, 77, 44, 190, 62, 3, 54, 4, 21, 4, 29, 162, 0, 31, 44, 21, 4, 46, 54, 5]
abbrev dktX1_mix_0 : List UInt8 := dkwX1_mix_0 ++ dktX1_mix_1
theorem dksX1_mix_0 : cX1_mix.data.toList.drop 0 = dktX1_mix_0 := by decide +kernel
theorem dksX1_mix_1 : cX1_mix.data.toList.drop 23 = dktX1_mix_1 := dk_seg dksX1_mix_0 23 rfl rfl
theorem dksX1_mix_2 : cX1_mix.data.toList.drop 46 = dktX1_mix_2 := dk_seg dksX1_mix_1 23 rfl rfl
theorem dX1_mix_0 : decode cX1_mix 0 = .ok (.bipush 17, 2) := dk_16 17 (dk_at dksX1_mix_0 0 rfl rfl)
theorem dX1_mix_2 : decode cX1_mix 2 = .ok (.istore_n 1, 1) := dk_60 (dk_at dksX1_mix_0 2 rfl rfl)
theorem dX1_mix_3 : decode cX1_mix 3 = .ok (.aload_n 0, 1) := dk_42 (dk_at dksX1_mix_0 3 rfl rfl)
theorem dX1_mix_4 : decode cX1_mix 4 = .ok (.astore_n 2, 1) := dk_77 (dk_at dksX1_mix_0 4 rfl rfl)
theorem dX1_mix_5 : decode cX1_mix 5 = .ok (.aload_n 2, 1) := dk_44 (dk_at dksX1_mix_0 5 rfl rfl)
theorem dX1_mix_6 : decode cX1_mix 6 = .ok (.arraylength, 1) := dk_190 (dk_at dksX1_mix_0 6 rfl rfl)
theorem dX1_mix_7 : decode cX1_mix 7 = .ok (.istore_n 3, 1) := dk_62 (dk_at dksX1_mix_0 7 rfl rfl)
theorem dX1_mix_8 : decode cX1_mix 8 = .ok (.iconst 0, 1) := dk_3 (dk_at dksX1_mix_0 8 rfl rfl)
theorem dX1_mix_9 : decode cX1_mix 9 = .ok (.istore 4, 2) := dk_54 4 (dk_at dksX1_mix_0 9 rfl rfl)
theorem dX1_mix_11 : decode cX1_mix 11 = .ok (.iload 4, 2) := dk_21 4 (dk_at dksX1_mix_0 11 rfl rfl)
theorem dX1_mix_13 : decode cX1_mix 13 = .ok (.iload_n 3, 1) := dk_29 (dk_at dksX1_mix_0 13 rfl rfl)
theorem dX1_mix_14 : decode cX1_mix 14 = .ok (.if_icmp .ge 31, 3) := dk_162 0 31 (dk_at dksX1_mix_0 14 rfl rfl)
theorem dX1_mix_17 : decode cX1_mix 17 = .ok (.aload_n 2, 1) := dk_44 (dk_at dksX1_mix_0 17 rfl rfl)
theorem dX1_mix_18 : decode cX1_mix 18 = .ok (.iload 4, 2) := dk_21 4 (dk_at dksX1_mix_0 18 rfl rfl)
theorem dX1_mix_20 : decode cX1_mix 20 = .ok (.iaload, 1) := dk_46 (dk_at dksX1_mix_0 20 rfl rfl)
theorem dX1_mix_21 : decode cX1_mix 21 = .ok (.istore 5, 2) := dk_54 5 (dk_at dksX1_mix_0 21 rfl rfl)
theorem dX1_mix_23 : decode cX1_mix 23 = .ok (.bipush 31, 2) := dk_16 31 (dk_at dksX1_mix_1 0 rfl rfl)
theorem dX1_mix_25 : decode cX1_mix 25 = .ok (.iload_n 1, 1) := dk_27 (dk_at dksX1_mix_1 2 rfl rfl)
theorem dX1_mix_26 : decode cX1_mix 26 = .ok (.imul, 1) := dk_104 (dk_at dksX1_mix_1 3 rfl rfl)
theorem dX1_mix_27 : decode cX1_mix 27 = .ok (.iload 5, 2) := dk_21 5 (dk_at dksX1_mix_1 4 rfl rfl)
theorem dX1_mix_29 : decode cX1_mix 29 = .ok (.iadd, 1) := dk_96 (dk_at dksX1_mix_1 6 rfl rfl)
theorem dX1_mix_30 : decode cX1_mix 30 = .ok (.iconst 2, 1) := dk_5 (dk_at dksX1_mix_1 7 rfl rfl)
theorem dX1_mix_31 : decode cX1_mix 31 = .ok (.iadd, 1) := dk_96 (dk_at dksX1_mix_1 8 rfl rfl)
theorem dX1_mix_32 : decode cX1_mix 32 = .ok (.ldc_w 399, 3) := dk_19 1 143 (dk_at dksX1_mix_1 9 rfl rfl)
theorem dX1_mix_35 : decode cX1_mix 35 = .ok (.invokestatic 400, 3) := dk_184 1 144 (dk_at dksX1_mix_1 12 rfl rfl)
theorem dX1_mix_38 : decode cX1_mix 38 = .ok (.istore_n 1, 1) := dk_60 (dk_at dksX1_mix_1 15 rfl rfl)
theorem dX1_mix_39 : decode cX1_mix 39 = .ok (.iinc 4 1, 3) := dk_132 4 1 (dk_at dksX1_mix_1 16 rfl rfl)
theorem dX1_mix_42 : decode cX1_mix 42 = .ok (.goto (-31), 3) := dk_167 255 225 (dk_at dksX1_mix_1 19 rfl rfl)
theorem dX1_mix_45 : decode cX1_mix 45 = .ok (.iload_n 1, 1) := dk_27 (dk_at dksX1_mix_1 22 rfl rfl)
theorem dX1_mix_46 : decode cX1_mix 46 = .ok (.ifCond .ne 7, 3) := dk_154 0 7 (dk_at dksX1_mix_2 0 rfl rfl)
theorem dX1_mix_49 : decode cX1_mix 49 = .ok (.iconst 1, 1) := dk_4 (dk_at dksX1_mix_2 3 rfl rfl)
theorem dX1_mix_50 : decode cX1_mix 50 = .ok (.goto 4, 3) := dk_167 0 4 (dk_at dksX1_mix_2 4 rfl rfl)
theorem dX1_mix_53 : decode cX1_mix 53 = .ok (.iload_n 1, 1) := dk_27 (dk_at dksX1_mix_2 7 rfl rfl)
theorem dX1_mix_54 : decode cX1_mix 54 = .ok (.ireturn, 1) := dk_172 (dk_at dksX1_mix_2 8 rfl rfl)
abbrev cX1_hasCookie : ByteArray := prog_1_method_53_code
def yX1_hasCookie : MethodName := ⟨RX1, "hasCookie", "(LBurrowline$Side;)Z"⟩
def dkwX1_hasCookie_1 : List UInt8 := [167, 0, 4, 3, 172]
abbrev dktX1_hasCookie_1 : List UInt8 := dkwX1_hasCookie_1 ++ []
def dkwX1_hasCookie_0 : List UInt8 := [43, 180, 0, 250, 2, 159, 0, 21, 42, 180, 0, 58, 43, 180, 1, 111, 100, 16, 60, 162, 0, 7, 4]
abbrev dktX1_hasCookie_0 : List UInt8 := dkwX1_hasCookie_0 ++ dktX1_hasCookie_1
theorem dksX1_hasCookie_0 : cX1_hasCookie.data.toList.drop 0 = dktX1_hasCookie_0 := by decide +kernel
theorem dksX1_hasCookie_1 : cX1_hasCookie.data.toList.drop 23 = dktX1_hasCookie_1 := dk_seg dksX1_hasCookie_0 23 rfl rfl
theorem dX1_hasCookie_0 : decode cX1_hasCookie 0 = .ok (.aload_n 1, 1) := dk_43 (dk_at dksX1_hasCookie_0 0 rfl rfl)
theorem dX1_hasCookie_1 : decode cX1_hasCookie 1 = .ok (.getfield 250, 3) := dk_180 0 250 (dk_at dksX1_hasCookie_0 1 rfl rfl)
theorem dX1_hasCookie_4 : decode cX1_hasCookie 4 = .ok (.iconst (-1), 1) := dk_2 (dk_at dksX1_hasCookie_0 4 rfl rfl)
theorem dX1_hasCookie_5 : decode cX1_hasCookie 5 = .ok (.if_icmp .eq 21, 3) := dk_159 0 21 (dk_at dksX1_hasCookie_0 5 rfl rfl)
theorem dX1_hasCookie_8 : decode cX1_hasCookie 8 = .ok (.aload_n 0, 1) := dk_42 (dk_at dksX1_hasCookie_0 8 rfl rfl)
theorem dX1_hasCookie_9 : decode cX1_hasCookie 9 = .ok (.getfield 58, 3) := dk_180 0 58 (dk_at dksX1_hasCookie_0 9 rfl rfl)
theorem dX1_hasCookie_12 : decode cX1_hasCookie 12 = .ok (.aload_n 1, 1) := dk_43 (dk_at dksX1_hasCookie_0 12 rfl rfl)
theorem dX1_hasCookie_13 : decode cX1_hasCookie 13 = .ok (.getfield 367, 3) := dk_180 1 111 (dk_at dksX1_hasCookie_0 13 rfl rfl)
theorem dX1_hasCookie_16 : decode cX1_hasCookie 16 = .ok (.isub, 1) := dk_100 (dk_at dksX1_hasCookie_0 16 rfl rfl)
theorem dX1_hasCookie_17 : decode cX1_hasCookie 17 = .ok (.bipush 60, 2) := dk_16 60 (dk_at dksX1_hasCookie_0 17 rfl rfl)
theorem dX1_hasCookie_19 : decode cX1_hasCookie 19 = .ok (.if_icmp .ge 7, 3) := dk_162 0 7 (dk_at dksX1_hasCookie_0 19 rfl rfl)
theorem dX1_hasCookie_22 : decode cX1_hasCookie 22 = .ok (.iconst 1, 1) := dk_4 (dk_at dksX1_hasCookie_0 22 rfl rfl)
theorem dX1_hasCookie_23 : decode cX1_hasCookie 23 = .ok (.goto 4, 3) := dk_167 0 4 (dk_at dksX1_hasCookie_1 0 rfl rfl)
theorem dX1_hasCookie_26 : decode cX1_hasCookie 26 = .ok (.iconst 0, 1) := dk_3 (dk_at dksX1_hasCookie_1 3 rfl rfl)
theorem dX1_hasCookie_27 : decode cX1_hasCookie 27 = .ok (.ireturn, 1) := dk_172 (dk_at dksX1_hasCookie_1 4 rfl rfl)
abbrev cX1_keep : ByteArray := prog_1_method_8_code
def yX1_keep : MethodName := ⟨RX1, "keep", "(II)Z"⟩
def dkwX1_keep_1 : List UInt8 := [172, 42, 27, 28, 2, 2, 2, 182, 0, 112, 4, 172]
abbrev dktX1_keep_1 : List UInt8 := dkwX1_keep_1 ++ []
def dkwX1_keep_0 : List UInt8 := [27, 28, 184, 0, 141, 42, 42, 180, 0, 25, 27, 50, 28, 50, 180, 0, 104, 182, 0, 108, 154, 0, 5, 3]
abbrev dktX1_keep_0 : List UInt8 := dkwX1_keep_0 ++ dktX1_keep_1
theorem dksX1_keep_0 : cX1_keep.data.toList.drop 0 = dktX1_keep_0 := by decide +kernel
theorem dksX1_keep_1 : cX1_keep.data.toList.drop 24 = dktX1_keep_1 := dk_seg dksX1_keep_0 24 rfl rfl
theorem dX1_keep_0 : decode cX1_keep 0 = .ok (.iload_n 1, 1) := dk_27 (dk_at dksX1_keep_0 0 rfl rfl)
theorem dX1_keep_1 : decode cX1_keep 1 = .ok (.iload_n 2, 1) := dk_28 (dk_at dksX1_keep_0 1 rfl rfl)
theorem dX1_keep_2 : decode cX1_keep 2 = .ok (.invokestatic 141, 3) := dk_184 0 141 (dk_at dksX1_keep_0 2 rfl rfl)
theorem dX1_keep_5 : decode cX1_keep 5 = .ok (.aload_n 0, 1) := dk_42 (dk_at dksX1_keep_0 5 rfl rfl)
theorem dX1_keep_6 : decode cX1_keep 6 = .ok (.aload_n 0, 1) := dk_42 (dk_at dksX1_keep_0 6 rfl rfl)
theorem dX1_keep_7 : decode cX1_keep 7 = .ok (.getfield 25, 3) := dk_180 0 25 (dk_at dksX1_keep_0 7 rfl rfl)
theorem dX1_keep_10 : decode cX1_keep 10 = .ok (.iload_n 1, 1) := dk_27 (dk_at dksX1_keep_0 10 rfl rfl)
theorem dX1_keep_11 : decode cX1_keep 11 = .ok (.aaload, 1) := dk_50 (dk_at dksX1_keep_0 11 rfl rfl)
theorem dX1_keep_12 : decode cX1_keep 12 = .ok (.iload_n 2, 1) := dk_28 (dk_at dksX1_keep_0 12 rfl rfl)
theorem dX1_keep_13 : decode cX1_keep 13 = .ok (.aaload, 1) := dk_50 (dk_at dksX1_keep_0 13 rfl rfl)
theorem dX1_keep_14 : decode cX1_keep 14 = .ok (.getfield 104, 3) := dk_180 0 104 (dk_at dksX1_keep_0 14 rfl rfl)
theorem dX1_keep_17 : decode cX1_keep 17 = .ok (.invokevirtual 108, 3) := dk_182 0 108 (dk_at dksX1_keep_0 17 rfl rfl)
theorem dX1_keep_20 : decode cX1_keep 20 = .ok (.ifCond .ne 5, 3) := dk_154 0 5 (dk_at dksX1_keep_0 20 rfl rfl)
theorem dX1_keep_23 : decode cX1_keep 23 = .ok (.iconst 0, 1) := dk_3 (dk_at dksX1_keep_0 23 rfl rfl)
theorem dX1_keep_24 : decode cX1_keep 24 = .ok (.ireturn, 1) := dk_172 (dk_at dksX1_keep_1 0 rfl rfl)
theorem dX1_keep_25 : decode cX1_keep 25 = .ok (.aload_n 0, 1) := dk_42 (dk_at dksX1_keep_1 1 rfl rfl)
theorem dX1_keep_26 : decode cX1_keep 26 = .ok (.iload_n 1, 1) := dk_27 (dk_at dksX1_keep_1 2 rfl rfl)
theorem dX1_keep_27 : decode cX1_keep 27 = .ok (.iload_n 2, 1) := dk_28 (dk_at dksX1_keep_1 3 rfl rfl)
theorem dX1_keep_28 : decode cX1_keep 28 = .ok (.iconst (-1), 1) := dk_2 (dk_at dksX1_keep_1 4 rfl rfl)
theorem dX1_keep_29 : decode cX1_keep 29 = .ok (.iconst (-1), 1) := dk_2 (dk_at dksX1_keep_1 5 rfl rfl)
theorem dX1_keep_30 : decode cX1_keep 30 = .ok (.iconst (-1), 1) := dk_2 (dk_at dksX1_keep_1 6 rfl rfl)
theorem dX1_keep_31 : decode cX1_keep 31 = .ok (.invokevirtual 112, 3) := dk_182 0 112 (dk_at dksX1_keep_1 7 rfl rfl)
theorem dX1_keep_34 : decode cX1_keep 34 = .ok (.iconst 1, 1) := dk_4 (dk_at dksX1_keep_1 10 rfl rfl)
theorem dX1_keep_35 : decode cX1_keep 35 = .ok (.ireturn, 1) := dk_172 (dk_at dksX1_keep_1 11 rfl rfl)
abbrev cX1_checkPeer : ByteArray := prog_1_method_64_code
def yX1_checkPeer : MethodName := ⟨RX1, "checkPeer", "(II)V"⟩
def dkwX1_checkPeer_1 : List UInt8 := [177]
abbrev dktX1_checkPeer_1 : List UInt8 := dkwX1_checkPeer_1 ++ []
def dkwX1_checkPeer_0 : List UInt8 := [26, 184, 0, 68, 27, 184, 0, 68, 26, 27, 160, 0, 14, 187, 0, 51, 89, 19, 1, 151, 183, 0, 55, 191]
abbrev dktX1_checkPeer_0 : List UInt8 := dkwX1_checkPeer_0 ++ dktX1_checkPeer_1
theorem dksX1_checkPeer_0 : cX1_checkPeer.data.toList.drop 0 = dktX1_checkPeer_0 := by decide +kernel
theorem dksX1_checkPeer_1 : cX1_checkPeer.data.toList.drop 24 = dktX1_checkPeer_1 := dk_seg dksX1_checkPeer_0 24 rfl rfl
theorem dX1_checkPeer_0 : decode cX1_checkPeer 0 = .ok (.iload_n 0, 1) := dk_26 (dk_at dksX1_checkPeer_0 0 rfl rfl)
theorem dX1_checkPeer_1 : decode cX1_checkPeer 1 = .ok (.invokestatic 68, 3) := dk_184 0 68 (dk_at dksX1_checkPeer_0 1 rfl rfl)
theorem dX1_checkPeer_4 : decode cX1_checkPeer 4 = .ok (.iload_n 1, 1) := dk_27 (dk_at dksX1_checkPeer_0 4 rfl rfl)
theorem dX1_checkPeer_5 : decode cX1_checkPeer 5 = .ok (.invokestatic 68, 3) := dk_184 0 68 (dk_at dksX1_checkPeer_0 5 rfl rfl)
theorem dX1_checkPeer_8 : decode cX1_checkPeer 8 = .ok (.iload_n 0, 1) := dk_26 (dk_at dksX1_checkPeer_0 8 rfl rfl)
theorem dX1_checkPeer_9 : decode cX1_checkPeer 9 = .ok (.iload_n 1, 1) := dk_27 (dk_at dksX1_checkPeer_0 9 rfl rfl)
theorem dX1_checkPeer_10 : decode cX1_checkPeer 10 = .ok (.if_icmp .ne 14, 3) := dk_160 0 14 (dk_at dksX1_checkPeer_0 10 rfl rfl)
theorem dX1_checkPeer_13 : decode cX1_checkPeer 13 = .ok (.new 51, 3) := dk_187 0 51 (dk_at dksX1_checkPeer_0 13 rfl rfl)
theorem dX1_checkPeer_16 : decode cX1_checkPeer 16 = .ok (.dup, 1) := dk_89 (dk_at dksX1_checkPeer_0 16 rfl rfl)
theorem dX1_checkPeer_17 : decode cX1_checkPeer 17 = .ok (.ldc_w 407, 3) := dk_19 1 151 (dk_at dksX1_checkPeer_0 17 rfl rfl)
theorem dX1_checkPeer_20 : decode cX1_checkPeer 20 = .ok (.invokespecial 55, 3) := dk_183 0 55 (dk_at dksX1_checkPeer_0 20 rfl rfl)
theorem dX1_checkPeer_23 : decode cX1_checkPeer 23 = .ok (.athrow, 1) := dk_191 (dk_at dksX1_checkPeer_0 23 rfl rfl)
theorem dX1_checkPeer_24 : decode cX1_checkPeer 24 = .ok (.return_, 1) := dk_177 (dk_at dksX1_checkPeer_1 0 rfl rfl)
abbrev cX1_greet : ByteArray := prog_1_method_9_code
def yX1_greet : MethodName := ⟨RX1, "greet", "(II)I"⟩
def dkwX1_greet_2 : List UInt8 := [180, 0, 150, 172]
abbrev dktX1_greet_2 : List UInt8 := dkwX1_greet_2 ++ []
def dkwX1_greet_1 : List UInt8 := [18, 144, 183, 0, 67, 191, 42, 27, 28, 182, 0, 133, 42, 180, 0, 25, 27, 50, 28, 50, 180, 0, 146]
abbrev dktX1_greet_1 : List UInt8 := dkwX1_greet_1 ++ dktX1_greet_2
def dkwX1_greet_0 : List UInt8 := [27, 28, 184, 0, 141, 42, 42, 180, 0, 25, 27, 50, 28, 50, 182, 0, 129, 153, 0, 13, 187, 0, 63, 89]
abbrev dktX1_greet_0 : List UInt8 := dkwX1_greet_0 ++ dktX1_greet_1
theorem dksX1_greet_0 : cX1_greet.data.toList.drop 0 = dktX1_greet_0 := by decide +kernel
theorem dksX1_greet_1 : cX1_greet.data.toList.drop 24 = dktX1_greet_1 := dk_seg dksX1_greet_0 24 rfl rfl
theorem dksX1_greet_2 : cX1_greet.data.toList.drop 47 = dktX1_greet_2 := dk_seg dksX1_greet_1 23 rfl rfl
theorem dX1_greet_0 : decode cX1_greet 0 = .ok (.iload_n 1, 1) := dk_27 (dk_at dksX1_greet_0 0 rfl rfl)
theorem dX1_greet_1 : decode cX1_greet 1 = .ok (.iload_n 2, 1) := dk_28 (dk_at dksX1_greet_0 1 rfl rfl)
theorem dX1_greet_2 : decode cX1_greet 2 = .ok (.invokestatic 141, 3) := dk_184 0 141 (dk_at dksX1_greet_0 2 rfl rfl)
theorem dX1_greet_5 : decode cX1_greet 5 = .ok (.aload_n 0, 1) := dk_42 (dk_at dksX1_greet_0 5 rfl rfl)
theorem dX1_greet_6 : decode cX1_greet 6 = .ok (.aload_n 0, 1) := dk_42 (dk_at dksX1_greet_0 6 rfl rfl)
theorem dX1_greet_7 : decode cX1_greet 7 = .ok (.getfield 25, 3) := dk_180 0 25 (dk_at dksX1_greet_0 7 rfl rfl)
theorem dX1_greet_10 : decode cX1_greet 10 = .ok (.iload_n 1, 1) := dk_27 (dk_at dksX1_greet_0 10 rfl rfl)
theorem dX1_greet_11 : decode cX1_greet 11 = .ok (.aaload, 1) := dk_50 (dk_at dksX1_greet_0 11 rfl rfl)
theorem dX1_greet_12 : decode cX1_greet 12 = .ok (.iload_n 2, 1) := dk_28 (dk_at dksX1_greet_0 12 rfl rfl)
theorem dX1_greet_13 : decode cX1_greet 13 = .ok (.aaload, 1) := dk_50 (dk_at dksX1_greet_0 13 rfl rfl)
theorem dX1_greet_14 : decode cX1_greet 14 = .ok (.invokevirtual 129, 3) := dk_182 0 129 (dk_at dksX1_greet_0 14 rfl rfl)
theorem dX1_greet_17 : decode cX1_greet 17 = .ok (.ifCond .eq 13, 3) := dk_153 0 13 (dk_at dksX1_greet_0 17 rfl rfl)
theorem dX1_greet_20 : decode cX1_greet 20 = .ok (.new 63, 3) := dk_187 0 63 (dk_at dksX1_greet_0 20 rfl rfl)
theorem dX1_greet_23 : decode cX1_greet 23 = .ok (.dup, 1) := dk_89 (dk_at dksX1_greet_0 23 rfl rfl)
theorem dX1_greet_24 : decode cX1_greet 24 = .ok (.ldc 144, 2) := dk_18 144 (dk_at dksX1_greet_1 0 rfl rfl)
theorem dX1_greet_26 : decode cX1_greet 26 = .ok (.invokespecial 67, 3) := dk_183 0 67 (dk_at dksX1_greet_1 2 rfl rfl)
theorem dX1_greet_29 : decode cX1_greet 29 = .ok (.athrow, 1) := dk_191 (dk_at dksX1_greet_1 5 rfl rfl)
theorem dX1_greet_30 : decode cX1_greet 30 = .ok (.aload_n 0, 1) := dk_42 (dk_at dksX1_greet_1 6 rfl rfl)
theorem dX1_greet_31 : decode cX1_greet 31 = .ok (.iload_n 1, 1) := dk_27 (dk_at dksX1_greet_1 7 rfl rfl)
theorem dX1_greet_32 : decode cX1_greet 32 = .ok (.iload_n 2, 1) := dk_28 (dk_at dksX1_greet_1 8 rfl rfl)
theorem dX1_greet_33 : decode cX1_greet 33 = .ok (.invokevirtual 133, 3) := dk_182 0 133 (dk_at dksX1_greet_1 9 rfl rfl)
theorem dX1_greet_36 : decode cX1_greet 36 = .ok (.aload_n 0, 1) := dk_42 (dk_at dksX1_greet_1 12 rfl rfl)
theorem dX1_greet_37 : decode cX1_greet 37 = .ok (.getfield 25, 3) := dk_180 0 25 (dk_at dksX1_greet_1 13 rfl rfl)
theorem dX1_greet_40 : decode cX1_greet 40 = .ok (.iload_n 1, 1) := dk_27 (dk_at dksX1_greet_1 16 rfl rfl)
theorem dX1_greet_41 : decode cX1_greet 41 = .ok (.aaload, 1) := dk_50 (dk_at dksX1_greet_1 17 rfl rfl)
theorem dX1_greet_42 : decode cX1_greet 42 = .ok (.iload_n 2, 1) := dk_28 (dk_at dksX1_greet_1 18 rfl rfl)
theorem dX1_greet_43 : decode cX1_greet 43 = .ok (.aaload, 1) := dk_50 (dk_at dksX1_greet_1 19 rfl rfl)
theorem dX1_greet_44 : decode cX1_greet 44 = .ok (.getfield 146, 3) := dk_180 0 146 (dk_at dksX1_greet_1 20 rfl rfl)
theorem dX1_greet_47 : decode cX1_greet 47 = .ok (.getfield 150, 3) := dk_180 0 150 (dk_at dksX1_greet_2 0 rfl rfl)
theorem dX1_greet_50 : decode cX1_greet 50 = .ok (.ireturn, 1) := dk_172 (dk_at dksX1_greet_2 3 rfl rfl)
abbrev cX1_deliver : ByteArray := prog_1_method_10_code
def yX1_deliver : MethodName := ⟨RX1, "deliver", "(I)I"⟩
def dkwX1_deliver_3 : List UInt8 := [89, 180, 0, 171, 4, 96, 181, 0, 171, 29, 172]
abbrev dktX1_deliver_3 : List UInt8 := dkwX1_deliver_3 ++ []
def dkwX1_deliver_2 : List UInt8 := [182, 0, 167, 62, 132, 4, 1, 167, 255, 225, 42, 180, 0, 38, 29, 16, 7, 96, 92, 46, 4, 96, 79, 42]
abbrev dktX1_deliver_2 : List UInt8 := dkwX1_deliver_2 ++ dktX1_deliver_3
def dkwX1_deliver_1 : List UInt8 := [6, 162, 0, 31, 42, 180, 0, 7, 21, 4, 46, 44, 180, 0, 164, 160, 0, 11, 42, 21, 4, 44]
abbrev dktX1_deliver_1 : List UInt8 := dkwX1_deliver_1 ++ dktX1_deliver_2
def dkwX1_deliver_0 : List UInt8 := [42, 27, 182, 0, 155, 42, 180, 0, 31, 27, 182, 0, 158, 192, 0, 162, 77, 3, 62, 3, 54, 4, 21, 4]
abbrev dktX1_deliver_0 : List UInt8 := dkwX1_deliver_0 ++ dktX1_deliver_1
theorem dksX1_deliver_0 : cX1_deliver.data.toList.drop 0 = dktX1_deliver_0 := by decide +kernel
theorem dksX1_deliver_1 : cX1_deliver.data.toList.drop 24 = dktX1_deliver_1 := dk_seg dksX1_deliver_0 24 rfl rfl
theorem dksX1_deliver_2 : cX1_deliver.data.toList.drop 46 = dktX1_deliver_2 := dk_seg dksX1_deliver_1 22 rfl rfl
theorem dksX1_deliver_3 : cX1_deliver.data.toList.drop 70 = dktX1_deliver_3 := dk_seg dksX1_deliver_2 24 rfl rfl
theorem dX1_deliver_0 : decode cX1_deliver 0 = .ok (.aload_n 0, 1) := dk_42 (dk_at dksX1_deliver_0 0 rfl rfl)
theorem dX1_deliver_1 : decode cX1_deliver 1 = .ok (.iload_n 1, 1) := dk_27 (dk_at dksX1_deliver_0 1 rfl rfl)
theorem dX1_deliver_2 : decode cX1_deliver 2 = .ok (.invokevirtual 155, 3) := dk_182 0 155 (dk_at dksX1_deliver_0 2 rfl rfl)
theorem dX1_deliver_5 : decode cX1_deliver 5 = .ok (.aload_n 0, 1) := dk_42 (dk_at dksX1_deliver_0 5 rfl rfl)
theorem dX1_deliver_6 : decode cX1_deliver 6 = .ok (.getfield 31, 3) := dk_180 0 31 (dk_at dksX1_deliver_0 6 rfl rfl)
theorem dX1_deliver_9 : decode cX1_deliver 9 = .ok (.iload_n 1, 1) := dk_27 (dk_at dksX1_deliver_0 9 rfl rfl)
theorem dX1_deliver_10 : decode cX1_deliver 10 = .ok (.invokevirtual 158, 3) := dk_182 0 158 (dk_at dksX1_deliver_0 10 rfl rfl)
theorem dX1_deliver_13 : decode cX1_deliver 13 = .ok (.checkcast 162, 3) := dk_192 0 162 (dk_at dksX1_deliver_0 13 rfl rfl)
theorem dX1_deliver_16 : decode cX1_deliver 16 = .ok (.astore_n 2, 1) := dk_77 (dk_at dksX1_deliver_0 16 rfl rfl)
theorem dX1_deliver_17 : decode cX1_deliver 17 = .ok (.iconst 0, 1) := dk_3 (dk_at dksX1_deliver_0 17 rfl rfl)
theorem dX1_deliver_18 : decode cX1_deliver 18 = .ok (.istore_n 3, 1) := dk_62 (dk_at dksX1_deliver_0 18 rfl rfl)
theorem dX1_deliver_19 : decode cX1_deliver 19 = .ok (.iconst 0, 1) := dk_3 (dk_at dksX1_deliver_0 19 rfl rfl)
theorem dX1_deliver_20 : decode cX1_deliver 20 = .ok (.istore 4, 2) := dk_54 4 (dk_at dksX1_deliver_0 20 rfl rfl)
theorem dX1_deliver_22 : decode cX1_deliver 22 = .ok (.iload 4, 2) := dk_21 4 (dk_at dksX1_deliver_0 22 rfl rfl)
theorem dX1_deliver_24 : decode cX1_deliver 24 = .ok (.iconst 3, 1) := dk_6 (dk_at dksX1_deliver_1 0 rfl rfl)
theorem dX1_deliver_25 : decode cX1_deliver 25 = .ok (.if_icmp .ge 31, 3) := dk_162 0 31 (dk_at dksX1_deliver_1 1 rfl rfl)
theorem dX1_deliver_28 : decode cX1_deliver 28 = .ok (.aload_n 0, 1) := dk_42 (dk_at dksX1_deliver_1 4 rfl rfl)
theorem dX1_deliver_29 : decode cX1_deliver 29 = .ok (.getfield 7, 3) := dk_180 0 7 (dk_at dksX1_deliver_1 5 rfl rfl)
theorem dX1_deliver_32 : decode cX1_deliver 32 = .ok (.iload 4, 2) := dk_21 4 (dk_at dksX1_deliver_1 8 rfl rfl)
theorem dX1_deliver_34 : decode cX1_deliver 34 = .ok (.iaload, 1) := dk_46 (dk_at dksX1_deliver_1 10 rfl rfl)
theorem dX1_deliver_35 : decode cX1_deliver 35 = .ok (.aload_n 2, 1) := dk_44 (dk_at dksX1_deliver_1 11 rfl rfl)
theorem dX1_deliver_36 : decode cX1_deliver 36 = .ok (.getfield 164, 3) := dk_180 0 164 (dk_at dksX1_deliver_1 12 rfl rfl)
theorem dX1_deliver_39 : decode cX1_deliver 39 = .ok (.if_icmp .ne 11, 3) := dk_160 0 11 (dk_at dksX1_deliver_1 15 rfl rfl)
theorem dX1_deliver_42 : decode cX1_deliver 42 = .ok (.aload_n 0, 1) := dk_42 (dk_at dksX1_deliver_1 18 rfl rfl)
theorem dX1_deliver_43 : decode cX1_deliver 43 = .ok (.iload 4, 2) := dk_21 4 (dk_at dksX1_deliver_1 19 rfl rfl)
theorem dX1_deliver_45 : decode cX1_deliver 45 = .ok (.aload_n 2, 1) := dk_44 (dk_at dksX1_deliver_1 21 rfl rfl)
theorem dX1_deliver_46 : decode cX1_deliver 46 = .ok (.invokevirtual 167, 3) := dk_182 0 167 (dk_at dksX1_deliver_2 0 rfl rfl)
theorem dX1_deliver_49 : decode cX1_deliver 49 = .ok (.istore_n 3, 1) := dk_62 (dk_at dksX1_deliver_2 3 rfl rfl)
theorem dX1_deliver_50 : decode cX1_deliver 50 = .ok (.iinc 4 1, 3) := dk_132 4 1 (dk_at dksX1_deliver_2 4 rfl rfl)
theorem dX1_deliver_53 : decode cX1_deliver 53 = .ok (.goto (-31), 3) := dk_167 255 225 (dk_at dksX1_deliver_2 7 rfl rfl)
theorem dX1_deliver_56 : decode cX1_deliver 56 = .ok (.aload_n 0, 1) := dk_42 (dk_at dksX1_deliver_2 10 rfl rfl)
theorem dX1_deliver_57 : decode cX1_deliver 57 = .ok (.getfield 38, 3) := dk_180 0 38 (dk_at dksX1_deliver_2 11 rfl rfl)
theorem dX1_deliver_60 : decode cX1_deliver 60 = .ok (.iload_n 3, 1) := dk_29 (dk_at dksX1_deliver_2 14 rfl rfl)
theorem dX1_deliver_61 : decode cX1_deliver 61 = .ok (.bipush 7, 2) := dk_16 7 (dk_at dksX1_deliver_2 15 rfl rfl)
theorem dX1_deliver_63 : decode cX1_deliver 63 = .ok (.iadd, 1) := dk_96 (dk_at dksX1_deliver_2 17 rfl rfl)
theorem dX1_deliver_64 : decode cX1_deliver 64 = .ok (.dup2, 1) := dk_92 (dk_at dksX1_deliver_2 18 rfl rfl)
theorem dX1_deliver_65 : decode cX1_deliver 65 = .ok (.iaload, 1) := dk_46 (dk_at dksX1_deliver_2 19 rfl rfl)
theorem dX1_deliver_66 : decode cX1_deliver 66 = .ok (.iconst 1, 1) := dk_4 (dk_at dksX1_deliver_2 20 rfl rfl)
theorem dX1_deliver_67 : decode cX1_deliver 67 = .ok (.iadd, 1) := dk_96 (dk_at dksX1_deliver_2 21 rfl rfl)
theorem dX1_deliver_68 : decode cX1_deliver 68 = .ok (.iastore, 1) := dk_79 (dk_at dksX1_deliver_2 22 rfl rfl)
theorem dX1_deliver_69 : decode cX1_deliver 69 = .ok (.aload_n 0, 1) := dk_42 (dk_at dksX1_deliver_2 23 rfl rfl)
theorem dX1_deliver_70 : decode cX1_deliver 70 = .ok (.dup, 1) := dk_89 (dk_at dksX1_deliver_3 0 rfl rfl)
theorem dX1_deliver_71 : decode cX1_deliver 71 = .ok (.getfield 171, 3) := dk_180 0 171 (dk_at dksX1_deliver_3 1 rfl rfl)
theorem dX1_deliver_74 : decode cX1_deliver 74 = .ok (.iconst 1, 1) := dk_4 (dk_at dksX1_deliver_3 4 rfl rfl)
theorem dX1_deliver_75 : decode cX1_deliver 75 = .ok (.iadd, 1) := dk_96 (dk_at dksX1_deliver_3 5 rfl rfl)
theorem dX1_deliver_76 : decode cX1_deliver 76 = .ok (.putfield 171, 3) := dk_181 0 171 (dk_at dksX1_deliver_3 6 rfl rfl)
theorem dX1_deliver_79 : decode cX1_deliver 79 = .ok (.iload_n 3, 1) := dk_29 (dk_at dksX1_deliver_3 9 rfl rfl)
theorem dX1_deliver_80 : decode cX1_deliver 80 = .ok (.ireturn, 1) := dk_172 (dk_at dksX1_deliver_3 10 rfl rfl)
abbrev cX1_checkLetter : ByteArray := prog_1_method_65_code
def yX1_checkLetter : MethodName := ⟨RX1, "checkLetter", "(I)V"⟩
def dkwX1_checkLetter_1 : List UInt8 := [183, 1, 6, 191, 177]
abbrev dktX1_checkLetter_1 : List UInt8 := dkwX1_checkLetter_1 ++ []
def dkwX1_checkLetter_0 : List UInt8 := [27, 155, 0, 14, 27, 42, 180, 0, 31, 182, 0, 174, 161, 0, 14, 187, 1, 3, 89, 19, 1, 152]
abbrev dktX1_checkLetter_0 : List UInt8 := dkwX1_checkLetter_0 ++ dktX1_checkLetter_1
theorem dksX1_checkLetter_0 : cX1_checkLetter.data.toList.drop 0 = dktX1_checkLetter_0 := by decide +kernel
theorem dksX1_checkLetter_1 : cX1_checkLetter.data.toList.drop 22 = dktX1_checkLetter_1 := dk_seg dksX1_checkLetter_0 22 rfl rfl
theorem dX1_checkLetter_0 : decode cX1_checkLetter 0 = .ok (.iload_n 1, 1) := dk_27 (dk_at dksX1_checkLetter_0 0 rfl rfl)
theorem dX1_checkLetter_1 : decode cX1_checkLetter 1 = .ok (.ifCond .lt 14, 3) := dk_155 0 14 (dk_at dksX1_checkLetter_0 1 rfl rfl)
theorem dX1_checkLetter_4 : decode cX1_checkLetter 4 = .ok (.iload_n 1, 1) := dk_27 (dk_at dksX1_checkLetter_0 4 rfl rfl)
theorem dX1_checkLetter_5 : decode cX1_checkLetter 5 = .ok (.aload_n 0, 1) := dk_42 (dk_at dksX1_checkLetter_0 5 rfl rfl)
theorem dX1_checkLetter_6 : decode cX1_checkLetter 6 = .ok (.getfield 31, 3) := dk_180 0 31 (dk_at dksX1_checkLetter_0 6 rfl rfl)
theorem dX1_checkLetter_9 : decode cX1_checkLetter 9 = .ok (.invokevirtual 174, 3) := dk_182 0 174 (dk_at dksX1_checkLetter_0 9 rfl rfl)
theorem dX1_checkLetter_12 : decode cX1_checkLetter 12 = .ok (.if_icmp .lt 14, 3) := dk_161 0 14 (dk_at dksX1_checkLetter_0 12 rfl rfl)
theorem dX1_checkLetter_15 : decode cX1_checkLetter 15 = .ok (.new 259, 3) := dk_187 1 3 (dk_at dksX1_checkLetter_0 15 rfl rfl)
theorem dX1_checkLetter_18 : decode cX1_checkLetter 18 = .ok (.dup, 1) := dk_89 (dk_at dksX1_checkLetter_0 18 rfl rfl)
theorem dX1_checkLetter_19 : decode cX1_checkLetter 19 = .ok (.ldc_w 408, 3) := dk_19 1 152 (dk_at dksX1_checkLetter_0 19 rfl rfl)
theorem dX1_checkLetter_22 : decode cX1_checkLetter 22 = .ok (.invokespecial 262, 3) := dk_183 1 6 (dk_at dksX1_checkLetter_1 0 rfl rfl)
theorem dX1_checkLetter_25 : decode cX1_checkLetter 25 = .ok (.athrow, 1) := dk_191 (dk_at dksX1_checkLetter_1 3 rfl rfl)
theorem dX1_checkLetter_26 : decode cX1_checkLetter 26 = .ok (.return_, 1) := dk_177 (dk_at dksX1_checkLetter_1 4 rfl rfl)
abbrev cX1_receive : ByteArray := prog_1_method_39_code
def yX1_receive : MethodName := ⟨RX1, "receive", "(ILBurrowline$Letter;)I"⟩
def dkwX1_receive_3 : List UInt8 := [182, 1, 63, 172]
abbrev dktX1_receive_3 : List UInt8 := dkwX1_receive_3 ++ []
def dkwX1_receive_2 : List UInt8 := [42, 27, 44, 182, 1, 54, 172, 42, 27, 44, 182, 1, 57, 172, 42, 27, 44, 182, 1, 60, 172, 42, 27, 44]
abbrev dktX1_receive_2 : List UInt8 := dkwX1_receive_2 ++ dktX1_receive_3
def dkwX1_receive_1 : List UInt8 := [170, 0, 0, 0, 0, 0, 0, 49, 0, 0, 0, 1, 0, 0, 0, 3, 0, 0, 0, 28, 0, 0, 0, 35, 0, 0, 0, 42]
abbrev dktX1_receive_1 : List UInt8 := dkwX1_receive_1 ++ dktX1_receive_2
def dkwX1_receive_0 : List UInt8 := [44, 180, 1, 51]
abbrev dktX1_receive_0 : List UInt8 := dkwX1_receive_0 ++ dktX1_receive_1
theorem dksX1_receive_0 : cX1_receive.data.toList.drop 0 = dktX1_receive_0 := by decide +kernel
theorem dksX1_receive_1 : cX1_receive.data.toList.drop 4 = dktX1_receive_1 := dk_seg dksX1_receive_0 4 rfl rfl
theorem dksX1_receive_2 : cX1_receive.data.toList.drop 32 = dktX1_receive_2 := dk_seg dksX1_receive_1 28 rfl rfl
theorem dksX1_receive_3 : cX1_receive.data.toList.drop 56 = dktX1_receive_3 := dk_seg dksX1_receive_2 24 rfl rfl
theorem dX1_receive_0 : decode cX1_receive 0 = .ok (.aload_n 2, 1) := dk_44 (dk_at dksX1_receive_0 0 rfl rfl)
theorem dX1_receive_1 : decode cX1_receive 1 = .ok (.getfield 307, 3) := dk_180 1 51 (dk_at dksX1_receive_0 1 rfl rfl)
theorem dX1_receive_4 : decode cX1_receive 4 = .ok (.tableswitch 49 1 3 #[28, 35, 42], 28) := by decide +kernel
theorem dX1_receive_32 : decode cX1_receive 32 = .ok (.aload_n 0, 1) := dk_42 (dk_at dksX1_receive_2 0 rfl rfl)
theorem dX1_receive_33 : decode cX1_receive 33 = .ok (.iload_n 1, 1) := dk_27 (dk_at dksX1_receive_2 1 rfl rfl)
theorem dX1_receive_34 : decode cX1_receive 34 = .ok (.aload_n 2, 1) := dk_44 (dk_at dksX1_receive_2 2 rfl rfl)
theorem dX1_receive_35 : decode cX1_receive 35 = .ok (.invokevirtual 310, 3) := dk_182 1 54 (dk_at dksX1_receive_2 3 rfl rfl)
theorem dX1_receive_38 : decode cX1_receive 38 = .ok (.ireturn, 1) := dk_172 (dk_at dksX1_receive_2 6 rfl rfl)
theorem dX1_receive_39 : decode cX1_receive 39 = .ok (.aload_n 0, 1) := dk_42 (dk_at dksX1_receive_2 7 rfl rfl)
theorem dX1_receive_40 : decode cX1_receive 40 = .ok (.iload_n 1, 1) := dk_27 (dk_at dksX1_receive_2 8 rfl rfl)
theorem dX1_receive_41 : decode cX1_receive 41 = .ok (.aload_n 2, 1) := dk_44 (dk_at dksX1_receive_2 9 rfl rfl)
theorem dX1_receive_42 : decode cX1_receive 42 = .ok (.invokevirtual 313, 3) := dk_182 1 57 (dk_at dksX1_receive_2 10 rfl rfl)
theorem dX1_receive_45 : decode cX1_receive 45 = .ok (.ireturn, 1) := dk_172 (dk_at dksX1_receive_2 13 rfl rfl)
theorem dX1_receive_46 : decode cX1_receive 46 = .ok (.aload_n 0, 1) := dk_42 (dk_at dksX1_receive_2 14 rfl rfl)
theorem dX1_receive_47 : decode cX1_receive 47 = .ok (.iload_n 1, 1) := dk_27 (dk_at dksX1_receive_2 15 rfl rfl)
theorem dX1_receive_48 : decode cX1_receive 48 = .ok (.aload_n 2, 1) := dk_44 (dk_at dksX1_receive_2 16 rfl rfl)
theorem dX1_receive_49 : decode cX1_receive 49 = .ok (.invokevirtual 316, 3) := dk_182 1 60 (dk_at dksX1_receive_2 17 rfl rfl)
theorem dX1_receive_52 : decode cX1_receive 52 = .ok (.ireturn, 1) := dk_172 (dk_at dksX1_receive_2 20 rfl rfl)
theorem dX1_receive_53 : decode cX1_receive 53 = .ok (.aload_n 0, 1) := dk_42 (dk_at dksX1_receive_2 21 rfl rfl)
theorem dX1_receive_54 : decode cX1_receive 54 = .ok (.iload_n 1, 1) := dk_27 (dk_at dksX1_receive_2 22 rfl rfl)
theorem dX1_receive_55 : decode cX1_receive 55 = .ok (.aload_n 2, 1) := dk_44 (dk_at dksX1_receive_2 23 rfl rfl)
theorem dX1_receive_56 : decode cX1_receive 56 = .ok (.invokevirtual 319, 3) := dk_182 1 63 (dk_at dksX1_receive_3 0 rfl rfl)
theorem dX1_receive_59 : decode cX1_receive 59 = .ok (.ireturn, 1) := dk_172 (dk_at dksX1_receive_3 3 rfl rfl)
abbrev cX1_receiveHello : ByteArray := prog_1_method_40_code
def yX1_receiveHello : MethodName := ⟨RX1, "receiveHello", "(ILBurrowline$Letter;)I"⟩
def dkwX1_receiveHello_21 : List UInt8 := [181, 1, 92, 6, 172]
abbrev dktX1_receiveHello_21 : List UInt8 := dkwX1_receiveHello_21 ++ []
def dkwX1_receiveHello_20 : List UInt8 := [188, 10, 89, 3, 8, 79, 89, 4, 21, 9, 79, 89, 5, 3, 79, 184, 1, 69, 3, 183, 1, 89]
abbrev dktX1_receiveHello_20 : List UInt8 := dkwX1_receiveHello_20 ++ dktX1_receiveHello_21
def dkwX1_receiveHello_19 : List UInt8 := [180, 0, 58, 6, 188, 10, 89, 3, 8, 79, 89, 4, 21, 9, 79, 89, 5, 4, 79, 184, 1, 69, 6]
abbrev dktX1_receiveHello_19 : List UInt8 := dkwX1_receiveHello_19 ++ dktX1_receiveHello_20
def dkwX1_receiveHello_18 : List UInt8 := [21, 8, 79, 184, 1, 24, 79, 182, 1, 76, 25, 6, 187, 0, 117, 89, 42, 180, 1, 83, 45, 3, 46, 42]
abbrev dktX1_receiveHello_18 : List UInt8 := dkwX1_receiveHello_18 ++ dktX1_receiveHello_19
def dkwX1_receiveHello_17 : List UInt8 := [21, 9, 7, 188, 10, 89, 3, 5, 79, 89, 4, 42, 180, 1, 83, 79, 89, 5, 45, 3, 46, 79, 89, 6]
abbrev dktX1_receiveHello_17 : List UInt8 := dkwX1_receiveHello_17 ++ dktX1_receiveHello_18
def dkwX1_receiveHello_16 : List UInt8 := [7, 188, 10, 89, 3, 42, 180, 1, 83, 79, 89, 4, 45, 3, 46, 79, 89, 5, 21, 8, 79, 89, 6]
abbrev dktX1_receiveHello_16 : List UInt8 := dkwX1_receiveHello_16 ++ dktX1_receiveHello_17
def dkwX1_receiveHello_15 : List UInt8 := [184, 1, 73, 21, 7, 184, 1, 13, 79, 184, 1, 69, 54, 9, 42, 27, 25, 6, 180, 0, 218, 5, 21, 9]
abbrev dktX1_receiveHello_15 : List UInt8 := dkwX1_receiveHello_15 ++ dktX1_receiveHello_16
def dkwX1_receiveHello_14 : List UInt8 := [89, 3, 7, 79, 89, 4, 21, 5, 79, 89, 5, 45, 4, 46, 21, 7, 184, 1, 13, 79, 89, 6, 21, 4]
abbrev dktX1_receiveHello_14 : List UInt8 := dkwX1_receiveHello_14 ++ dktX1_receiveHello_15
def dkwX1_receiveHello_13 : List UInt8 := [181, 1, 83, 42, 180, 1, 83, 184, 1, 86, 54, 7, 16, 7, 21, 7, 184, 1, 13, 54, 8, 7, 188, 10]
abbrev dktX1_receiveHello_13 : List UInt8 := dkwX1_receiveHello_13 ++ dktX1_receiveHello_14
def dkwX1_receiveHello_12 : List UInt8 := [25, 6, 45, 6, 46, 181, 1, 0, 25, 6, 44, 180, 0, 206, 181, 0, 218, 42, 89, 180, 1, 83, 4, 96]
abbrev dktX1_receiveHello_12 : List UInt8 := dkwX1_receiveHello_12 ++ dktX1_receiveHello_13
def dkwX1_receiveHello_11 : List UInt8 := [180, 0, 25, 27, 50, 21, 4, 50, 58, 6, 45, 6, 46, 25, 6, 180, 1, 0, 163, 0, 6, 16, 250, 172]
abbrev dktX1_receiveHello_11 : List UInt8 := dkwX1_receiveHello_11 ++ dktX1_receiveHello_12
def dkwX1_receiveHello_10 : List UInt8 := [89, 6, 45, 5, 46, 79, 89, 7, 45, 6, 46, 79, 184, 1, 24, 159, 0, 6, 16, 254, 172, 42]
abbrev dktX1_receiveHello_10 : List UInt8 := dkwX1_receiveHello_10 ++ dktX1_receiveHello_11
def dkwX1_receiveHello_9 : List UInt8 := [45, 7, 46, 21, 5, 8, 188, 10, 89, 3, 4, 79, 89, 4, 45, 3, 46, 79, 89, 5, 45, 4, 46, 79]
abbrev dktX1_receiveHello_9 : List UInt8 := dkwX1_receiveHello_9 ++ dktX1_receiveHello_10
def dkwX1_receiveHello_8 : List UInt8 := [184, 1, 13, 79, 89, 5, 21, 4, 184, 1, 73, 27, 184, 1, 80, 184, 1, 13, 79, 184, 1, 69, 54, 5]
abbrev dktX1_receiveHello_8 : List UInt8 := dkwX1_receiveHello_8 ++ dktX1_receiveHello_9
def dkwX1_receiveHello_7 : List UInt8 := [182, 1, 76, 16, 249, 172, 6, 188, 10, 89, 3, 4, 79, 89, 4, 45, 4, 46, 27, 184, 1, 80]
abbrev dktX1_receiveHello_7 : List UInt8 := dkwX1_receiveHello_7 ++ dktX1_receiveHello_8
def dkwX1_receiveHello_6 : List UInt8 := [79, 184, 1, 69, 6, 188, 10, 89, 3, 45, 3, 46, 79, 89, 4, 21, 5, 79, 89, 5, 21, 6, 79]
abbrev dktX1_receiveHello_6 : List UInt8 := dkwX1_receiveHello_6 ++ dktX1_receiveHello_7
def dkwX1_receiveHello_5 : List UInt8 := [44, 180, 0, 206, 6, 6, 188, 10, 89, 3, 6, 79, 89, 4, 27, 184, 1, 73, 79, 89, 5, 45, 7, 46]
abbrev dktX1_receiveHello_5 : List UInt8 := dkwX1_receiveHello_5 ++ dktX1_receiveHello_6
def dkwX1_receiveHello_4 : List UInt8 := [188, 10, 89, 3, 6, 79, 89, 4, 45, 3, 46, 79, 89, 5, 21, 5, 79, 184, 1, 24, 54, 6, 42, 27]
abbrev dktX1_receiveHello_4 : List UInt8 := dkwX1_receiveHello_4 ++ dktX1_receiveHello_5
def dkwX1_receiveHello_3 : List UInt8 := [6, 188, 10, 89, 3, 6, 79, 89, 4, 27, 184, 1, 73, 79, 89, 5, 45, 7, 46, 79, 184, 1, 69, 6]
abbrev dktX1_receiveHello_3 : List UInt8 := dkwX1_receiveHello_3 ++ dktX1_receiveHello_4
def dkwX1_receiveHello_2 : List UInt8 := [6, 188, 10, 89, 3, 5, 79, 89, 4, 21, 5, 79, 89, 5, 45, 7, 46, 79, 184, 1, 69, 159, 0, 104]
abbrev dktX1_receiveHello_2 : List UInt8 := dkwX1_receiveHello_2 ++ dktX1_receiveHello_3
def dkwX1_receiveHello_1 : List UInt8 := [172, 42, 180, 0, 13, 27, 51, 153, 0, 142, 42, 27, 44, 180, 0, 206, 182, 1, 66, 54, 5, 45, 8, 46]
abbrev dktX1_receiveHello_1 : List UInt8 := dkwX1_receiveHello_1 ++ dktX1_receiveHello_2
def dkwX1_receiveHello_0 : List UInt8 := [44, 180, 0, 191, 78, 45, 5, 46, 16, 10, 108, 54, 4, 45, 5, 46, 16, 10, 112, 27, 159, 0, 5, 2]
abbrev dktX1_receiveHello_0 : List UInt8 := dkwX1_receiveHello_0 ++ dktX1_receiveHello_1
theorem dksX1_receiveHello_0 : cX1_receiveHello.data.toList.drop 0 = dktX1_receiveHello_0 := by decide +kernel
theorem dksX1_receiveHello_1 : cX1_receiveHello.data.toList.drop 24 = dktX1_receiveHello_1 := dk_seg dksX1_receiveHello_0 24 rfl rfl
theorem dksX1_receiveHello_2 : cX1_receiveHello.data.toList.drop 48 = dktX1_receiveHello_2 := dk_seg dksX1_receiveHello_1 24 rfl rfl
theorem dksX1_receiveHello_3 : cX1_receiveHello.data.toList.drop 72 = dktX1_receiveHello_3 := dk_seg dksX1_receiveHello_2 24 rfl rfl
theorem dksX1_receiveHello_4 : cX1_receiveHello.data.toList.drop 96 = dktX1_receiveHello_4 := dk_seg dksX1_receiveHello_3 24 rfl rfl
theorem dksX1_receiveHello_5 : cX1_receiveHello.data.toList.drop 120 = dktX1_receiveHello_5 := dk_seg dksX1_receiveHello_4 24 rfl rfl
theorem dksX1_receiveHello_6 : cX1_receiveHello.data.toList.drop 144 = dktX1_receiveHello_6 := dk_seg dksX1_receiveHello_5 24 rfl rfl
theorem dksX1_receiveHello_7 : cX1_receiveHello.data.toList.drop 167 = dktX1_receiveHello_7 := dk_seg dksX1_receiveHello_6 23 rfl rfl
theorem dksX1_receiveHello_8 : cX1_receiveHello.data.toList.drop 189 = dktX1_receiveHello_8 := dk_seg dksX1_receiveHello_7 22 rfl rfl
theorem dksX1_receiveHello_9 : cX1_receiveHello.data.toList.drop 213 = dktX1_receiveHello_9 := dk_seg dksX1_receiveHello_8 24 rfl rfl
theorem dksX1_receiveHello_10 : cX1_receiveHello.data.toList.drop 237 = dktX1_receiveHello_10 := dk_seg dksX1_receiveHello_9 24 rfl rfl
theorem dksX1_receiveHello_11 : cX1_receiveHello.data.toList.drop 259 = dktX1_receiveHello_11 := dk_seg dksX1_receiveHello_10 22 rfl rfl
theorem dksX1_receiveHello_12 : cX1_receiveHello.data.toList.drop 283 = dktX1_receiveHello_12 := dk_seg dksX1_receiveHello_11 24 rfl rfl
theorem dksX1_receiveHello_13 : cX1_receiveHello.data.toList.drop 307 = dktX1_receiveHello_13 := dk_seg dksX1_receiveHello_12 24 rfl rfl
theorem dksX1_receiveHello_14 : cX1_receiveHello.data.toList.drop 331 = dktX1_receiveHello_14 := dk_seg dksX1_receiveHello_13 24 rfl rfl
theorem dksX1_receiveHello_15 : cX1_receiveHello.data.toList.drop 355 = dktX1_receiveHello_15 := dk_seg dksX1_receiveHello_14 24 rfl rfl
theorem dksX1_receiveHello_16 : cX1_receiveHello.data.toList.drop 379 = dktX1_receiveHello_16 := dk_seg dksX1_receiveHello_15 24 rfl rfl
theorem dksX1_receiveHello_17 : cX1_receiveHello.data.toList.drop 402 = dktX1_receiveHello_17 := dk_seg dksX1_receiveHello_16 23 rfl rfl
theorem dksX1_receiveHello_18 : cX1_receiveHello.data.toList.drop 426 = dktX1_receiveHello_18 := dk_seg dksX1_receiveHello_17 24 rfl rfl
theorem dksX1_receiveHello_19 : cX1_receiveHello.data.toList.drop 450 = dktX1_receiveHello_19 := dk_seg dksX1_receiveHello_18 24 rfl rfl
theorem dksX1_receiveHello_20 : cX1_receiveHello.data.toList.drop 473 = dktX1_receiveHello_20 := dk_seg dksX1_receiveHello_19 23 rfl rfl
theorem dksX1_receiveHello_21 : cX1_receiveHello.data.toList.drop 495 = dktX1_receiveHello_21 := dk_seg dksX1_receiveHello_20 22 rfl rfl
theorem dX1_receiveHello_0 : decode cX1_receiveHello 0 = .ok (.aload_n 2, 1) := dk_44 (dk_at dksX1_receiveHello_0 0 rfl rfl)
theorem dX1_receiveHello_1 : decode cX1_receiveHello 1 = .ok (.getfield 191, 3) := dk_180 0 191 (dk_at dksX1_receiveHello_0 1 rfl rfl)
theorem dX1_receiveHello_4 : decode cX1_receiveHello 4 = .ok (.astore_n 3, 1) := dk_78 (dk_at dksX1_receiveHello_0 4 rfl rfl)
theorem dX1_receiveHello_5 : decode cX1_receiveHello 5 = .ok (.aload_n 3, 1) := dk_45 (dk_at dksX1_receiveHello_0 5 rfl rfl)
theorem dX1_receiveHello_6 : decode cX1_receiveHello 6 = .ok (.iconst 2, 1) := dk_5 (dk_at dksX1_receiveHello_0 6 rfl rfl)
theorem dX1_receiveHello_7 : decode cX1_receiveHello 7 = .ok (.iaload, 1) := dk_46 (dk_at dksX1_receiveHello_0 7 rfl rfl)
theorem dX1_receiveHello_8 : decode cX1_receiveHello 8 = .ok (.bipush 10, 2) := dk_16 10 (dk_at dksX1_receiveHello_0 8 rfl rfl)
theorem dX1_receiveHello_10 : decode cX1_receiveHello 10 = .ok (.idiv, 1) := dk_108 (dk_at dksX1_receiveHello_0 10 rfl rfl)
theorem dX1_receiveHello_11 : decode cX1_receiveHello 11 = .ok (.istore 4, 2) := dk_54 4 (dk_at dksX1_receiveHello_0 11 rfl rfl)
theorem dX1_receiveHello_13 : decode cX1_receiveHello 13 = .ok (.aload_n 3, 1) := dk_45 (dk_at dksX1_receiveHello_0 13 rfl rfl)
theorem dX1_receiveHello_14 : decode cX1_receiveHello 14 = .ok (.iconst 2, 1) := dk_5 (dk_at dksX1_receiveHello_0 14 rfl rfl)
theorem dX1_receiveHello_15 : decode cX1_receiveHello 15 = .ok (.iaload, 1) := dk_46 (dk_at dksX1_receiveHello_0 15 rfl rfl)
theorem dX1_receiveHello_16 : decode cX1_receiveHello 16 = .ok (.bipush 10, 2) := dk_16 10 (dk_at dksX1_receiveHello_0 16 rfl rfl)
theorem dX1_receiveHello_18 : decode cX1_receiveHello 18 = .ok (.irem, 1) := dk_112 (dk_at dksX1_receiveHello_0 18 rfl rfl)
theorem dX1_receiveHello_19 : decode cX1_receiveHello 19 = .ok (.iload_n 1, 1) := dk_27 (dk_at dksX1_receiveHello_0 19 rfl rfl)
theorem dX1_receiveHello_20 : decode cX1_receiveHello 20 = .ok (.if_icmp .eq 5, 3) := dk_159 0 5 (dk_at dksX1_receiveHello_0 20 rfl rfl)
theorem dX1_receiveHello_23 : decode cX1_receiveHello 23 = .ok (.iconst (-1), 1) := dk_2 (dk_at dksX1_receiveHello_0 23 rfl rfl)
theorem dX1_receiveHello_24 : decode cX1_receiveHello 24 = .ok (.ireturn, 1) := dk_172 (dk_at dksX1_receiveHello_1 0 rfl rfl)
theorem dX1_receiveHello_25 : decode cX1_receiveHello 25 = .ok (.aload_n 0, 1) := dk_42 (dk_at dksX1_receiveHello_1 1 rfl rfl)
theorem dX1_receiveHello_26 : decode cX1_receiveHello 26 = .ok (.getfield 13, 3) := dk_180 0 13 (dk_at dksX1_receiveHello_1 2 rfl rfl)
theorem dX1_receiveHello_29 : decode cX1_receiveHello 29 = .ok (.iload_n 1, 1) := dk_27 (dk_at dksX1_receiveHello_1 5 rfl rfl)
theorem dX1_receiveHello_30 : decode cX1_receiveHello 30 = .ok (.baload, 1) := dk_51 (dk_at dksX1_receiveHello_1 6 rfl rfl)
theorem dX1_receiveHello_31 : decode cX1_receiveHello 31 = .ok (.ifCond .eq 142, 3) := dk_153 0 142 (dk_at dksX1_receiveHello_1 7 rfl rfl)
theorem dX1_receiveHello_34 : decode cX1_receiveHello 34 = .ok (.aload_n 0, 1) := dk_42 (dk_at dksX1_receiveHello_1 10 rfl rfl)
theorem dX1_receiveHello_35 : decode cX1_receiveHello 35 = .ok (.iload_n 1, 1) := dk_27 (dk_at dksX1_receiveHello_1 11 rfl rfl)
theorem dX1_receiveHello_36 : decode cX1_receiveHello 36 = .ok (.aload_n 2, 1) := dk_44 (dk_at dksX1_receiveHello_1 12 rfl rfl)
theorem dX1_receiveHello_37 : decode cX1_receiveHello 37 = .ok (.getfield 206, 3) := dk_180 0 206 (dk_at dksX1_receiveHello_1 13 rfl rfl)
theorem dX1_receiveHello_40 : decode cX1_receiveHello 40 = .ok (.invokevirtual 322, 3) := dk_182 1 66 (dk_at dksX1_receiveHello_1 16 rfl rfl)
theorem dX1_receiveHello_43 : decode cX1_receiveHello 43 = .ok (.istore 5, 2) := dk_54 5 (dk_at dksX1_receiveHello_1 19 rfl rfl)
theorem dX1_receiveHello_45 : decode cX1_receiveHello 45 = .ok (.aload_n 3, 1) := dk_45 (dk_at dksX1_receiveHello_1 21 rfl rfl)
theorem dX1_receiveHello_46 : decode cX1_receiveHello 46 = .ok (.iconst 5, 1) := dk_8 (dk_at dksX1_receiveHello_1 22 rfl rfl)
theorem dX1_receiveHello_47 : decode cX1_receiveHello 47 = .ok (.iaload, 1) := dk_46 (dk_at dksX1_receiveHello_1 23 rfl rfl)
theorem dX1_receiveHello_48 : decode cX1_receiveHello 48 = .ok (.iconst 3, 1) := dk_6 (dk_at dksX1_receiveHello_2 0 rfl rfl)
theorem dX1_receiveHello_49 : decode cX1_receiveHello 49 = .ok (.newarray .int, 2) := dk_188_10 (dk_at dksX1_receiveHello_2 1 rfl rfl)
theorem dX1_receiveHello_51 : decode cX1_receiveHello 51 = .ok (.dup, 1) := dk_89 (dk_at dksX1_receiveHello_2 3 rfl rfl)
theorem dX1_receiveHello_52 : decode cX1_receiveHello 52 = .ok (.iconst 0, 1) := dk_3 (dk_at dksX1_receiveHello_2 4 rfl rfl)
theorem dX1_receiveHello_53 : decode cX1_receiveHello 53 = .ok (.iconst 2, 1) := dk_5 (dk_at dksX1_receiveHello_2 5 rfl rfl)
theorem dX1_receiveHello_54 : decode cX1_receiveHello 54 = .ok (.iastore, 1) := dk_79 (dk_at dksX1_receiveHello_2 6 rfl rfl)
theorem dX1_receiveHello_55 : decode cX1_receiveHello 55 = .ok (.dup, 1) := dk_89 (dk_at dksX1_receiveHello_2 7 rfl rfl)
theorem dX1_receiveHello_56 : decode cX1_receiveHello 56 = .ok (.iconst 1, 1) := dk_4 (dk_at dksX1_receiveHello_2 8 rfl rfl)
theorem dX1_receiveHello_57 : decode cX1_receiveHello 57 = .ok (.iload 5, 2) := dk_21 5 (dk_at dksX1_receiveHello_2 9 rfl rfl)
theorem dX1_receiveHello_59 : decode cX1_receiveHello 59 = .ok (.iastore, 1) := dk_79 (dk_at dksX1_receiveHello_2 11 rfl rfl)
theorem dX1_receiveHello_60 : decode cX1_receiveHello 60 = .ok (.dup, 1) := dk_89 (dk_at dksX1_receiveHello_2 12 rfl rfl)
theorem dX1_receiveHello_61 : decode cX1_receiveHello 61 = .ok (.iconst 2, 1) := dk_5 (dk_at dksX1_receiveHello_2 13 rfl rfl)
theorem dX1_receiveHello_62 : decode cX1_receiveHello 62 = .ok (.aload_n 3, 1) := dk_45 (dk_at dksX1_receiveHello_2 14 rfl rfl)
theorem dX1_receiveHello_63 : decode cX1_receiveHello 63 = .ok (.iconst 4, 1) := dk_7 (dk_at dksX1_receiveHello_2 15 rfl rfl)
theorem dX1_receiveHello_64 : decode cX1_receiveHello 64 = .ok (.iaload, 1) := dk_46 (dk_at dksX1_receiveHello_2 16 rfl rfl)
theorem dX1_receiveHello_65 : decode cX1_receiveHello 65 = .ok (.iastore, 1) := dk_79 (dk_at dksX1_receiveHello_2 17 rfl rfl)
theorem dX1_receiveHello_66 : decode cX1_receiveHello 66 = .ok (.invokestatic 325, 3) := dk_184 1 69 (dk_at dksX1_receiveHello_2 18 rfl rfl)
theorem dX1_receiveHello_69 : decode cX1_receiveHello 69 = .ok (.if_icmp .eq 104, 3) := dk_159 0 104 (dk_at dksX1_receiveHello_2 21 rfl rfl)
theorem dX1_receiveHello_72 : decode cX1_receiveHello 72 = .ok (.iconst 3, 1) := dk_6 (dk_at dksX1_receiveHello_3 0 rfl rfl)
theorem dX1_receiveHello_73 : decode cX1_receiveHello 73 = .ok (.newarray .int, 2) := dk_188_10 (dk_at dksX1_receiveHello_3 1 rfl rfl)
theorem dX1_receiveHello_75 : decode cX1_receiveHello 75 = .ok (.dup, 1) := dk_89 (dk_at dksX1_receiveHello_3 3 rfl rfl)
theorem dX1_receiveHello_76 : decode cX1_receiveHello 76 = .ok (.iconst 0, 1) := dk_3 (dk_at dksX1_receiveHello_3 4 rfl rfl)
theorem dX1_receiveHello_77 : decode cX1_receiveHello 77 = .ok (.iconst 3, 1) := dk_6 (dk_at dksX1_receiveHello_3 5 rfl rfl)
theorem dX1_receiveHello_78 : decode cX1_receiveHello 78 = .ok (.iastore, 1) := dk_79 (dk_at dksX1_receiveHello_3 6 rfl rfl)
theorem dX1_receiveHello_79 : decode cX1_receiveHello 79 = .ok (.dup, 1) := dk_89 (dk_at dksX1_receiveHello_3 7 rfl rfl)
theorem dX1_receiveHello_80 : decode cX1_receiveHello 80 = .ok (.iconst 1, 1) := dk_4 (dk_at dksX1_receiveHello_3 8 rfl rfl)
theorem dX1_receiveHello_81 : decode cX1_receiveHello 81 = .ok (.iload_n 1, 1) := dk_27 (dk_at dksX1_receiveHello_3 9 rfl rfl)
theorem dX1_receiveHello_82 : decode cX1_receiveHello 82 = .ok (.invokestatic 329, 3) := dk_184 1 73 (dk_at dksX1_receiveHello_3 10 rfl rfl)
theorem dX1_receiveHello_85 : decode cX1_receiveHello 85 = .ok (.iastore, 1) := dk_79 (dk_at dksX1_receiveHello_3 13 rfl rfl)
theorem dX1_receiveHello_86 : decode cX1_receiveHello 86 = .ok (.dup, 1) := dk_89 (dk_at dksX1_receiveHello_3 14 rfl rfl)
theorem dX1_receiveHello_87 : decode cX1_receiveHello 87 = .ok (.iconst 2, 1) := dk_5 (dk_at dksX1_receiveHello_3 15 rfl rfl)
theorem dX1_receiveHello_88 : decode cX1_receiveHello 88 = .ok (.aload_n 3, 1) := dk_45 (dk_at dksX1_receiveHello_3 16 rfl rfl)
theorem dX1_receiveHello_89 : decode cX1_receiveHello 89 = .ok (.iconst 4, 1) := dk_7 (dk_at dksX1_receiveHello_3 17 rfl rfl)
theorem dX1_receiveHello_90 : decode cX1_receiveHello 90 = .ok (.iaload, 1) := dk_46 (dk_at dksX1_receiveHello_3 18 rfl rfl)
theorem dX1_receiveHello_91 : decode cX1_receiveHello 91 = .ok (.iastore, 1) := dk_79 (dk_at dksX1_receiveHello_3 19 rfl rfl)
theorem dX1_receiveHello_92 : decode cX1_receiveHello 92 = .ok (.invokestatic 325, 3) := dk_184 1 69 (dk_at dksX1_receiveHello_3 20 rfl rfl)
theorem dX1_receiveHello_95 : decode cX1_receiveHello 95 = .ok (.iconst 3, 1) := dk_6 (dk_at dksX1_receiveHello_3 23 rfl rfl)
theorem dX1_receiveHello_96 : decode cX1_receiveHello 96 = .ok (.newarray .int, 2) := dk_188_10 (dk_at dksX1_receiveHello_4 0 rfl rfl)
theorem dX1_receiveHello_98 : decode cX1_receiveHello 98 = .ok (.dup, 1) := dk_89 (dk_at dksX1_receiveHello_4 2 rfl rfl)
theorem dX1_receiveHello_99 : decode cX1_receiveHello 99 = .ok (.iconst 0, 1) := dk_3 (dk_at dksX1_receiveHello_4 3 rfl rfl)
theorem dX1_receiveHello_100 : decode cX1_receiveHello 100 = .ok (.iconst 3, 1) := dk_6 (dk_at dksX1_receiveHello_4 4 rfl rfl)
theorem dX1_receiveHello_101 : decode cX1_receiveHello 101 = .ok (.iastore, 1) := dk_79 (dk_at dksX1_receiveHello_4 5 rfl rfl)
theorem dX1_receiveHello_102 : decode cX1_receiveHello 102 = .ok (.dup, 1) := dk_89 (dk_at dksX1_receiveHello_4 6 rfl rfl)
theorem dX1_receiveHello_103 : decode cX1_receiveHello 103 = .ok (.iconst 1, 1) := dk_4 (dk_at dksX1_receiveHello_4 7 rfl rfl)
theorem dX1_receiveHello_104 : decode cX1_receiveHello 104 = .ok (.aload_n 3, 1) := dk_45 (dk_at dksX1_receiveHello_4 8 rfl rfl)
theorem dX1_receiveHello_105 : decode cX1_receiveHello 105 = .ok (.iconst 0, 1) := dk_3 (dk_at dksX1_receiveHello_4 9 rfl rfl)
theorem dX1_receiveHello_106 : decode cX1_receiveHello 106 = .ok (.iaload, 1) := dk_46 (dk_at dksX1_receiveHello_4 10 rfl rfl)
theorem dX1_receiveHello_107 : decode cX1_receiveHello 107 = .ok (.iastore, 1) := dk_79 (dk_at dksX1_receiveHello_4 11 rfl rfl)
theorem dX1_receiveHello_108 : decode cX1_receiveHello 108 = .ok (.dup, 1) := dk_89 (dk_at dksX1_receiveHello_4 12 rfl rfl)
theorem dX1_receiveHello_109 : decode cX1_receiveHello 109 = .ok (.iconst 2, 1) := dk_5 (dk_at dksX1_receiveHello_4 13 rfl rfl)
theorem dX1_receiveHello_110 : decode cX1_receiveHello 110 = .ok (.iload 5, 2) := dk_21 5 (dk_at dksX1_receiveHello_4 14 rfl rfl)
theorem dX1_receiveHello_112 : decode cX1_receiveHello 112 = .ok (.iastore, 1) := dk_79 (dk_at dksX1_receiveHello_4 16 rfl rfl)
theorem dX1_receiveHello_113 : decode cX1_receiveHello 113 = .ok (.invokestatic 280, 3) := dk_184 1 24 (dk_at dksX1_receiveHello_4 17 rfl rfl)
theorem dX1_receiveHello_116 : decode cX1_receiveHello 116 = .ok (.istore 6, 2) := dk_54 6 (dk_at dksX1_receiveHello_4 20 rfl rfl)
theorem dX1_receiveHello_118 : decode cX1_receiveHello 118 = .ok (.aload_n 0, 1) := dk_42 (dk_at dksX1_receiveHello_4 22 rfl rfl)
theorem dX1_receiveHello_119 : decode cX1_receiveHello 119 = .ok (.iload_n 1, 1) := dk_27 (dk_at dksX1_receiveHello_4 23 rfl rfl)
theorem dX1_receiveHello_120 : decode cX1_receiveHello 120 = .ok (.aload_n 2, 1) := dk_44 (dk_at dksX1_receiveHello_5 0 rfl rfl)
theorem dX1_receiveHello_121 : decode cX1_receiveHello 121 = .ok (.getfield 206, 3) := dk_180 0 206 (dk_at dksX1_receiveHello_5 1 rfl rfl)
theorem dX1_receiveHello_124 : decode cX1_receiveHello 124 = .ok (.iconst 3, 1) := dk_6 (dk_at dksX1_receiveHello_5 4 rfl rfl)
theorem dX1_receiveHello_125 : decode cX1_receiveHello 125 = .ok (.iconst 3, 1) := dk_6 (dk_at dksX1_receiveHello_5 5 rfl rfl)
theorem dX1_receiveHello_126 : decode cX1_receiveHello 126 = .ok (.newarray .int, 2) := dk_188_10 (dk_at dksX1_receiveHello_5 6 rfl rfl)
theorem dX1_receiveHello_128 : decode cX1_receiveHello 128 = .ok (.dup, 1) := dk_89 (dk_at dksX1_receiveHello_5 8 rfl rfl)
theorem dX1_receiveHello_129 : decode cX1_receiveHello 129 = .ok (.iconst 0, 1) := dk_3 (dk_at dksX1_receiveHello_5 9 rfl rfl)
theorem dX1_receiveHello_130 : decode cX1_receiveHello 130 = .ok (.iconst 3, 1) := dk_6 (dk_at dksX1_receiveHello_5 10 rfl rfl)
theorem dX1_receiveHello_131 : decode cX1_receiveHello 131 = .ok (.iastore, 1) := dk_79 (dk_at dksX1_receiveHello_5 11 rfl rfl)
theorem dX1_receiveHello_132 : decode cX1_receiveHello 132 = .ok (.dup, 1) := dk_89 (dk_at dksX1_receiveHello_5 12 rfl rfl)
theorem dX1_receiveHello_133 : decode cX1_receiveHello 133 = .ok (.iconst 1, 1) := dk_4 (dk_at dksX1_receiveHello_5 13 rfl rfl)
theorem dX1_receiveHello_134 : decode cX1_receiveHello 134 = .ok (.iload_n 1, 1) := dk_27 (dk_at dksX1_receiveHello_5 14 rfl rfl)
theorem dX1_receiveHello_135 : decode cX1_receiveHello 135 = .ok (.invokestatic 329, 3) := dk_184 1 73 (dk_at dksX1_receiveHello_5 15 rfl rfl)
theorem dX1_receiveHello_138 : decode cX1_receiveHello 138 = .ok (.iastore, 1) := dk_79 (dk_at dksX1_receiveHello_5 18 rfl rfl)
theorem dX1_receiveHello_139 : decode cX1_receiveHello 139 = .ok (.dup, 1) := dk_89 (dk_at dksX1_receiveHello_5 19 rfl rfl)
theorem dX1_receiveHello_140 : decode cX1_receiveHello 140 = .ok (.iconst 2, 1) := dk_5 (dk_at dksX1_receiveHello_5 20 rfl rfl)
theorem dX1_receiveHello_141 : decode cX1_receiveHello 141 = .ok (.aload_n 3, 1) := dk_45 (dk_at dksX1_receiveHello_5 21 rfl rfl)
theorem dX1_receiveHello_142 : decode cX1_receiveHello 142 = .ok (.iconst 4, 1) := dk_7 (dk_at dksX1_receiveHello_5 22 rfl rfl)
theorem dX1_receiveHello_143 : decode cX1_receiveHello 143 = .ok (.iaload, 1) := dk_46 (dk_at dksX1_receiveHello_5 23 rfl rfl)
theorem dX1_receiveHello_144 : decode cX1_receiveHello 144 = .ok (.iastore, 1) := dk_79 (dk_at dksX1_receiveHello_6 0 rfl rfl)
theorem dX1_receiveHello_145 : decode cX1_receiveHello 145 = .ok (.invokestatic 325, 3) := dk_184 1 69 (dk_at dksX1_receiveHello_6 1 rfl rfl)
theorem dX1_receiveHello_148 : decode cX1_receiveHello 148 = .ok (.iconst 3, 1) := dk_6 (dk_at dksX1_receiveHello_6 4 rfl rfl)
theorem dX1_receiveHello_149 : decode cX1_receiveHello 149 = .ok (.newarray .int, 2) := dk_188_10 (dk_at dksX1_receiveHello_6 5 rfl rfl)
theorem dX1_receiveHello_151 : decode cX1_receiveHello 151 = .ok (.dup, 1) := dk_89 (dk_at dksX1_receiveHello_6 7 rfl rfl)
theorem dX1_receiveHello_152 : decode cX1_receiveHello 152 = .ok (.iconst 0, 1) := dk_3 (dk_at dksX1_receiveHello_6 8 rfl rfl)
theorem dX1_receiveHello_153 : decode cX1_receiveHello 153 = .ok (.aload_n 3, 1) := dk_45 (dk_at dksX1_receiveHello_6 9 rfl rfl)
theorem dX1_receiveHello_154 : decode cX1_receiveHello 154 = .ok (.iconst 0, 1) := dk_3 (dk_at dksX1_receiveHello_6 10 rfl rfl)
theorem dX1_receiveHello_155 : decode cX1_receiveHello 155 = .ok (.iaload, 1) := dk_46 (dk_at dksX1_receiveHello_6 11 rfl rfl)
theorem dX1_receiveHello_156 : decode cX1_receiveHello 156 = .ok (.iastore, 1) := dk_79 (dk_at dksX1_receiveHello_6 12 rfl rfl)
theorem dX1_receiveHello_157 : decode cX1_receiveHello 157 = .ok (.dup, 1) := dk_89 (dk_at dksX1_receiveHello_6 13 rfl rfl)
theorem dX1_receiveHello_158 : decode cX1_receiveHello 158 = .ok (.iconst 1, 1) := dk_4 (dk_at dksX1_receiveHello_6 14 rfl rfl)
theorem dX1_receiveHello_159 : decode cX1_receiveHello 159 = .ok (.iload 5, 2) := dk_21 5 (dk_at dksX1_receiveHello_6 15 rfl rfl)
theorem dX1_receiveHello_161 : decode cX1_receiveHello 161 = .ok (.iastore, 1) := dk_79 (dk_at dksX1_receiveHello_6 17 rfl rfl)
theorem dX1_receiveHello_162 : decode cX1_receiveHello 162 = .ok (.dup, 1) := dk_89 (dk_at dksX1_receiveHello_6 18 rfl rfl)
theorem dX1_receiveHello_163 : decode cX1_receiveHello 163 = .ok (.iconst 2, 1) := dk_5 (dk_at dksX1_receiveHello_6 19 rfl rfl)
theorem dX1_receiveHello_164 : decode cX1_receiveHello 164 = .ok (.iload 6, 2) := dk_21 6 (dk_at dksX1_receiveHello_6 20 rfl rfl)
theorem dX1_receiveHello_166 : decode cX1_receiveHello 166 = .ok (.iastore, 1) := dk_79 (dk_at dksX1_receiveHello_6 22 rfl rfl)
theorem dX1_receiveHello_167 : decode cX1_receiveHello 167 = .ok (.invokevirtual 332, 3) := dk_182 1 76 (dk_at dksX1_receiveHello_7 0 rfl rfl)
theorem dX1_receiveHello_170 : decode cX1_receiveHello 170 = .ok (.bipush (-7), 2) := dk_16 249 (dk_at dksX1_receiveHello_7 3 rfl rfl)
theorem dX1_receiveHello_172 : decode cX1_receiveHello 172 = .ok (.ireturn, 1) := dk_172 (dk_at dksX1_receiveHello_7 5 rfl rfl)
theorem dX1_receiveHello_173 : decode cX1_receiveHello 173 = .ok (.iconst 3, 1) := dk_6 (dk_at dksX1_receiveHello_7 6 rfl rfl)
theorem dX1_receiveHello_174 : decode cX1_receiveHello 174 = .ok (.newarray .int, 2) := dk_188_10 (dk_at dksX1_receiveHello_7 7 rfl rfl)
theorem dX1_receiveHello_176 : decode cX1_receiveHello 176 = .ok (.dup, 1) := dk_89 (dk_at dksX1_receiveHello_7 9 rfl rfl)
theorem dX1_receiveHello_177 : decode cX1_receiveHello 177 = .ok (.iconst 0, 1) := dk_3 (dk_at dksX1_receiveHello_7 10 rfl rfl)
theorem dX1_receiveHello_178 : decode cX1_receiveHello 178 = .ok (.iconst 1, 1) := dk_4 (dk_at dksX1_receiveHello_7 11 rfl rfl)
theorem dX1_receiveHello_179 : decode cX1_receiveHello 179 = .ok (.iastore, 1) := dk_79 (dk_at dksX1_receiveHello_7 12 rfl rfl)
theorem dX1_receiveHello_180 : decode cX1_receiveHello 180 = .ok (.dup, 1) := dk_89 (dk_at dksX1_receiveHello_7 13 rfl rfl)
theorem dX1_receiveHello_181 : decode cX1_receiveHello 181 = .ok (.iconst 1, 1) := dk_4 (dk_at dksX1_receiveHello_7 14 rfl rfl)
theorem dX1_receiveHello_182 : decode cX1_receiveHello 182 = .ok (.aload_n 3, 1) := dk_45 (dk_at dksX1_receiveHello_7 15 rfl rfl)
theorem dX1_receiveHello_183 : decode cX1_receiveHello 183 = .ok (.iconst 1, 1) := dk_4 (dk_at dksX1_receiveHello_7 16 rfl rfl)
theorem dX1_receiveHello_184 : decode cX1_receiveHello 184 = .ok (.iaload, 1) := dk_46 (dk_at dksX1_receiveHello_7 17 rfl rfl)
theorem dX1_receiveHello_185 : decode cX1_receiveHello 185 = .ok (.iload_n 1, 1) := dk_27 (dk_at dksX1_receiveHello_7 18 rfl rfl)
theorem dX1_receiveHello_186 : decode cX1_receiveHello 186 = .ok (.invokestatic 336, 3) := dk_184 1 80 (dk_at dksX1_receiveHello_7 19 rfl rfl)
theorem dX1_receiveHello_189 : decode cX1_receiveHello 189 = .ok (.invokestatic 269, 3) := dk_184 1 13 (dk_at dksX1_receiveHello_8 0 rfl rfl)
theorem dX1_receiveHello_192 : decode cX1_receiveHello 192 = .ok (.iastore, 1) := dk_79 (dk_at dksX1_receiveHello_8 3 rfl rfl)
theorem dX1_receiveHello_193 : decode cX1_receiveHello 193 = .ok (.dup, 1) := dk_89 (dk_at dksX1_receiveHello_8 4 rfl rfl)
theorem dX1_receiveHello_194 : decode cX1_receiveHello 194 = .ok (.iconst 2, 1) := dk_5 (dk_at dksX1_receiveHello_8 5 rfl rfl)
theorem dX1_receiveHello_195 : decode cX1_receiveHello 195 = .ok (.iload 4, 2) := dk_21 4 (dk_at dksX1_receiveHello_8 6 rfl rfl)
theorem dX1_receiveHello_197 : decode cX1_receiveHello 197 = .ok (.invokestatic 329, 3) := dk_184 1 73 (dk_at dksX1_receiveHello_8 8 rfl rfl)
theorem dX1_receiveHello_200 : decode cX1_receiveHello 200 = .ok (.iload_n 1, 1) := dk_27 (dk_at dksX1_receiveHello_8 11 rfl rfl)
theorem dX1_receiveHello_201 : decode cX1_receiveHello 201 = .ok (.invokestatic 336, 3) := dk_184 1 80 (dk_at dksX1_receiveHello_8 12 rfl rfl)
theorem dX1_receiveHello_204 : decode cX1_receiveHello 204 = .ok (.invokestatic 269, 3) := dk_184 1 13 (dk_at dksX1_receiveHello_8 15 rfl rfl)
theorem dX1_receiveHello_207 : decode cX1_receiveHello 207 = .ok (.iastore, 1) := dk_79 (dk_at dksX1_receiveHello_8 18 rfl rfl)
theorem dX1_receiveHello_208 : decode cX1_receiveHello 208 = .ok (.invokestatic 325, 3) := dk_184 1 69 (dk_at dksX1_receiveHello_8 19 rfl rfl)
theorem dX1_receiveHello_211 : decode cX1_receiveHello 211 = .ok (.istore 5, 2) := dk_54 5 (dk_at dksX1_receiveHello_8 22 rfl rfl)
theorem dX1_receiveHello_213 : decode cX1_receiveHello 213 = .ok (.aload_n 3, 1) := dk_45 (dk_at dksX1_receiveHello_9 0 rfl rfl)
theorem dX1_receiveHello_214 : decode cX1_receiveHello 214 = .ok (.iconst 4, 1) := dk_7 (dk_at dksX1_receiveHello_9 1 rfl rfl)
theorem dX1_receiveHello_215 : decode cX1_receiveHello 215 = .ok (.iaload, 1) := dk_46 (dk_at dksX1_receiveHello_9 2 rfl rfl)
theorem dX1_receiveHello_216 : decode cX1_receiveHello 216 = .ok (.iload 5, 2) := dk_21 5 (dk_at dksX1_receiveHello_9 3 rfl rfl)
theorem dX1_receiveHello_218 : decode cX1_receiveHello 218 = .ok (.iconst 5, 1) := dk_8 (dk_at dksX1_receiveHello_9 5 rfl rfl)
theorem dX1_receiveHello_219 : decode cX1_receiveHello 219 = .ok (.newarray .int, 2) := dk_188_10 (dk_at dksX1_receiveHello_9 6 rfl rfl)
theorem dX1_receiveHello_221 : decode cX1_receiveHello 221 = .ok (.dup, 1) := dk_89 (dk_at dksX1_receiveHello_9 8 rfl rfl)
theorem dX1_receiveHello_222 : decode cX1_receiveHello 222 = .ok (.iconst 0, 1) := dk_3 (dk_at dksX1_receiveHello_9 9 rfl rfl)
theorem dX1_receiveHello_223 : decode cX1_receiveHello 223 = .ok (.iconst 1, 1) := dk_4 (dk_at dksX1_receiveHello_9 10 rfl rfl)
theorem dX1_receiveHello_224 : decode cX1_receiveHello 224 = .ok (.iastore, 1) := dk_79 (dk_at dksX1_receiveHello_9 11 rfl rfl)
theorem dX1_receiveHello_225 : decode cX1_receiveHello 225 = .ok (.dup, 1) := dk_89 (dk_at dksX1_receiveHello_9 12 rfl rfl)
theorem dX1_receiveHello_226 : decode cX1_receiveHello 226 = .ok (.iconst 1, 1) := dk_4 (dk_at dksX1_receiveHello_9 13 rfl rfl)
theorem dX1_receiveHello_227 : decode cX1_receiveHello 227 = .ok (.aload_n 3, 1) := dk_45 (dk_at dksX1_receiveHello_9 14 rfl rfl)
theorem dX1_receiveHello_228 : decode cX1_receiveHello 228 = .ok (.iconst 0, 1) := dk_3 (dk_at dksX1_receiveHello_9 15 rfl rfl)
theorem dX1_receiveHello_229 : decode cX1_receiveHello 229 = .ok (.iaload, 1) := dk_46 (dk_at dksX1_receiveHello_9 16 rfl rfl)
theorem dX1_receiveHello_230 : decode cX1_receiveHello 230 = .ok (.iastore, 1) := dk_79 (dk_at dksX1_receiveHello_9 17 rfl rfl)
theorem dX1_receiveHello_231 : decode cX1_receiveHello 231 = .ok (.dup, 1) := dk_89 (dk_at dksX1_receiveHello_9 18 rfl rfl)
theorem dX1_receiveHello_232 : decode cX1_receiveHello 232 = .ok (.iconst 2, 1) := dk_5 (dk_at dksX1_receiveHello_9 19 rfl rfl)
theorem dX1_receiveHello_233 : decode cX1_receiveHello 233 = .ok (.aload_n 3, 1) := dk_45 (dk_at dksX1_receiveHello_9 20 rfl rfl)
theorem dX1_receiveHello_234 : decode cX1_receiveHello 234 = .ok (.iconst 1, 1) := dk_4 (dk_at dksX1_receiveHello_9 21 rfl rfl)
theorem dX1_receiveHello_235 : decode cX1_receiveHello 235 = .ok (.iaload, 1) := dk_46 (dk_at dksX1_receiveHello_9 22 rfl rfl)
theorem dX1_receiveHello_236 : decode cX1_receiveHello 236 = .ok (.iastore, 1) := dk_79 (dk_at dksX1_receiveHello_9 23 rfl rfl)
theorem dX1_receiveHello_237 : decode cX1_receiveHello 237 = .ok (.dup, 1) := dk_89 (dk_at dksX1_receiveHello_10 0 rfl rfl)
theorem dX1_receiveHello_238 : decode cX1_receiveHello 238 = .ok (.iconst 3, 1) := dk_6 (dk_at dksX1_receiveHello_10 1 rfl rfl)
theorem dX1_receiveHello_239 : decode cX1_receiveHello 239 = .ok (.aload_n 3, 1) := dk_45 (dk_at dksX1_receiveHello_10 2 rfl rfl)
theorem dX1_receiveHello_240 : decode cX1_receiveHello 240 = .ok (.iconst 2, 1) := dk_5 (dk_at dksX1_receiveHello_10 3 rfl rfl)
theorem dX1_receiveHello_241 : decode cX1_receiveHello 241 = .ok (.iaload, 1) := dk_46 (dk_at dksX1_receiveHello_10 4 rfl rfl)
theorem dX1_receiveHello_242 : decode cX1_receiveHello 242 = .ok (.iastore, 1) := dk_79 (dk_at dksX1_receiveHello_10 5 rfl rfl)
theorem dX1_receiveHello_243 : decode cX1_receiveHello 243 = .ok (.dup, 1) := dk_89 (dk_at dksX1_receiveHello_10 6 rfl rfl)
theorem dX1_receiveHello_244 : decode cX1_receiveHello 244 = .ok (.iconst 4, 1) := dk_7 (dk_at dksX1_receiveHello_10 7 rfl rfl)
theorem dX1_receiveHello_245 : decode cX1_receiveHello 245 = .ok (.aload_n 3, 1) := dk_45 (dk_at dksX1_receiveHello_10 8 rfl rfl)
theorem dX1_receiveHello_246 : decode cX1_receiveHello 246 = .ok (.iconst 3, 1) := dk_6 (dk_at dksX1_receiveHello_10 9 rfl rfl)
theorem dX1_receiveHello_247 : decode cX1_receiveHello 247 = .ok (.iaload, 1) := dk_46 (dk_at dksX1_receiveHello_10 10 rfl rfl)
theorem dX1_receiveHello_248 : decode cX1_receiveHello 248 = .ok (.iastore, 1) := dk_79 (dk_at dksX1_receiveHello_10 11 rfl rfl)
theorem dX1_receiveHello_249 : decode cX1_receiveHello 249 = .ok (.invokestatic 280, 3) := dk_184 1 24 (dk_at dksX1_receiveHello_10 12 rfl rfl)
theorem dX1_receiveHello_252 : decode cX1_receiveHello 252 = .ok (.if_icmp .eq 6, 3) := dk_159 0 6 (dk_at dksX1_receiveHello_10 15 rfl rfl)
theorem dX1_receiveHello_255 : decode cX1_receiveHello 255 = .ok (.bipush (-2), 2) := dk_16 254 (dk_at dksX1_receiveHello_10 18 rfl rfl)
theorem dX1_receiveHello_257 : decode cX1_receiveHello 257 = .ok (.ireturn, 1) := dk_172 (dk_at dksX1_receiveHello_10 20 rfl rfl)
theorem dX1_receiveHello_258 : decode cX1_receiveHello 258 = .ok (.aload_n 0, 1) := dk_42 (dk_at dksX1_receiveHello_10 21 rfl rfl)
theorem dX1_receiveHello_259 : decode cX1_receiveHello 259 = .ok (.getfield 25, 3) := dk_180 0 25 (dk_at dksX1_receiveHello_11 0 rfl rfl)
theorem dX1_receiveHello_262 : decode cX1_receiveHello 262 = .ok (.iload_n 1, 1) := dk_27 (dk_at dksX1_receiveHello_11 3 rfl rfl)
theorem dX1_receiveHello_263 : decode cX1_receiveHello 263 = .ok (.aaload, 1) := dk_50 (dk_at dksX1_receiveHello_11 4 rfl rfl)
theorem dX1_receiveHello_264 : decode cX1_receiveHello 264 = .ok (.iload 4, 2) := dk_21 4 (dk_at dksX1_receiveHello_11 5 rfl rfl)
theorem dX1_receiveHello_266 : decode cX1_receiveHello 266 = .ok (.aaload, 1) := dk_50 (dk_at dksX1_receiveHello_11 7 rfl rfl)
theorem dX1_receiveHello_267 : decode cX1_receiveHello 267 = .ok (.astore 6, 2) := dk_58 6 (dk_at dksX1_receiveHello_11 8 rfl rfl)
theorem dX1_receiveHello_269 : decode cX1_receiveHello 269 = .ok (.aload_n 3, 1) := dk_45 (dk_at dksX1_receiveHello_11 10 rfl rfl)
theorem dX1_receiveHello_270 : decode cX1_receiveHello 270 = .ok (.iconst 3, 1) := dk_6 (dk_at dksX1_receiveHello_11 11 rfl rfl)
theorem dX1_receiveHello_271 : decode cX1_receiveHello 271 = .ok (.iaload, 1) := dk_46 (dk_at dksX1_receiveHello_11 12 rfl rfl)
theorem dX1_receiveHello_272 : decode cX1_receiveHello 272 = .ok (.aload 6, 2) := dk_25 6 (dk_at dksX1_receiveHello_11 13 rfl rfl)
theorem dX1_receiveHello_274 : decode cX1_receiveHello 274 = .ok (.getfield 256, 3) := dk_180 1 0 (dk_at dksX1_receiveHello_11 15 rfl rfl)
theorem dX1_receiveHello_277 : decode cX1_receiveHello 277 = .ok (.if_icmp .gt 6, 3) := dk_163 0 6 (dk_at dksX1_receiveHello_11 18 rfl rfl)
theorem dX1_receiveHello_280 : decode cX1_receiveHello 280 = .ok (.bipush (-6), 2) := dk_16 250 (dk_at dksX1_receiveHello_11 21 rfl rfl)
theorem dX1_receiveHello_282 : decode cX1_receiveHello 282 = .ok (.ireturn, 1) := dk_172 (dk_at dksX1_receiveHello_11 23 rfl rfl)
theorem dX1_receiveHello_283 : decode cX1_receiveHello 283 = .ok (.aload 6, 2) := dk_25 6 (dk_at dksX1_receiveHello_12 0 rfl rfl)
theorem dX1_receiveHello_285 : decode cX1_receiveHello 285 = .ok (.aload_n 3, 1) := dk_45 (dk_at dksX1_receiveHello_12 2 rfl rfl)
theorem dX1_receiveHello_286 : decode cX1_receiveHello 286 = .ok (.iconst 3, 1) := dk_6 (dk_at dksX1_receiveHello_12 3 rfl rfl)
theorem dX1_receiveHello_287 : decode cX1_receiveHello 287 = .ok (.iaload, 1) := dk_46 (dk_at dksX1_receiveHello_12 4 rfl rfl)
theorem dX1_receiveHello_288 : decode cX1_receiveHello 288 = .ok (.putfield 256, 3) := dk_181 1 0 (dk_at dksX1_receiveHello_12 5 rfl rfl)
theorem dX1_receiveHello_291 : decode cX1_receiveHello 291 = .ok (.aload 6, 2) := dk_25 6 (dk_at dksX1_receiveHello_12 8 rfl rfl)
theorem dX1_receiveHello_293 : decode cX1_receiveHello 293 = .ok (.aload_n 2, 1) := dk_44 (dk_at dksX1_receiveHello_12 10 rfl rfl)
theorem dX1_receiveHello_294 : decode cX1_receiveHello 294 = .ok (.getfield 206, 3) := dk_180 0 206 (dk_at dksX1_receiveHello_12 11 rfl rfl)
theorem dX1_receiveHello_297 : decode cX1_receiveHello 297 = .ok (.putfield 218, 3) := dk_181 0 218 (dk_at dksX1_receiveHello_12 14 rfl rfl)
theorem dX1_receiveHello_300 : decode cX1_receiveHello 300 = .ok (.aload_n 0, 1) := dk_42 (dk_at dksX1_receiveHello_12 17 rfl rfl)
theorem dX1_receiveHello_301 : decode cX1_receiveHello 301 = .ok (.dup, 1) := dk_89 (dk_at dksX1_receiveHello_12 18 rfl rfl)
theorem dX1_receiveHello_302 : decode cX1_receiveHello 302 = .ok (.getfield 339, 3) := dk_180 1 83 (dk_at dksX1_receiveHello_12 19 rfl rfl)
theorem dX1_receiveHello_305 : decode cX1_receiveHello 305 = .ok (.iconst 1, 1) := dk_4 (dk_at dksX1_receiveHello_12 22 rfl rfl)
theorem dX1_receiveHello_306 : decode cX1_receiveHello 306 = .ok (.iadd, 1) := dk_96 (dk_at dksX1_receiveHello_12 23 rfl rfl)
theorem dX1_receiveHello_307 : decode cX1_receiveHello 307 = .ok (.putfield 339, 3) := dk_181 1 83 (dk_at dksX1_receiveHello_13 0 rfl rfl)
theorem dX1_receiveHello_310 : decode cX1_receiveHello 310 = .ok (.aload_n 0, 1) := dk_42 (dk_at dksX1_receiveHello_13 3 rfl rfl)
theorem dX1_receiveHello_311 : decode cX1_receiveHello 311 = .ok (.getfield 339, 3) := dk_180 1 83 (dk_at dksX1_receiveHello_13 4 rfl rfl)
theorem dX1_receiveHello_314 : decode cX1_receiveHello 314 = .ok (.invokestatic 342, 3) := dk_184 1 86 (dk_at dksX1_receiveHello_13 7 rfl rfl)
theorem dX1_receiveHello_317 : decode cX1_receiveHello 317 = .ok (.istore 7, 2) := dk_54 7 (dk_at dksX1_receiveHello_13 10 rfl rfl)
theorem dX1_receiveHello_319 : decode cX1_receiveHello 319 = .ok (.bipush 7, 2) := dk_16 7 (dk_at dksX1_receiveHello_13 12 rfl rfl)
theorem dX1_receiveHello_321 : decode cX1_receiveHello 321 = .ok (.iload 7, 2) := dk_21 7 (dk_at dksX1_receiveHello_13 14 rfl rfl)
theorem dX1_receiveHello_323 : decode cX1_receiveHello 323 = .ok (.invokestatic 269, 3) := dk_184 1 13 (dk_at dksX1_receiveHello_13 16 rfl rfl)
theorem dX1_receiveHello_326 : decode cX1_receiveHello 326 = .ok (.istore 8, 2) := dk_54 8 (dk_at dksX1_receiveHello_13 19 rfl rfl)
theorem dX1_receiveHello_328 : decode cX1_receiveHello 328 = .ok (.iconst 4, 1) := dk_7 (dk_at dksX1_receiveHello_13 21 rfl rfl)
theorem dX1_receiveHello_329 : decode cX1_receiveHello 329 = .ok (.newarray .int, 2) := dk_188_10 (dk_at dksX1_receiveHello_13 22 rfl rfl)
theorem dX1_receiveHello_331 : decode cX1_receiveHello 331 = .ok (.dup, 1) := dk_89 (dk_at dksX1_receiveHello_14 0 rfl rfl)
theorem dX1_receiveHello_332 : decode cX1_receiveHello 332 = .ok (.iconst 0, 1) := dk_3 (dk_at dksX1_receiveHello_14 1 rfl rfl)
theorem dX1_receiveHello_333 : decode cX1_receiveHello 333 = .ok (.iconst 4, 1) := dk_7 (dk_at dksX1_receiveHello_14 2 rfl rfl)
theorem dX1_receiveHello_334 : decode cX1_receiveHello 334 = .ok (.iastore, 1) := dk_79 (dk_at dksX1_receiveHello_14 3 rfl rfl)
theorem dX1_receiveHello_335 : decode cX1_receiveHello 335 = .ok (.dup, 1) := dk_89 (dk_at dksX1_receiveHello_14 4 rfl rfl)
theorem dX1_receiveHello_336 : decode cX1_receiveHello 336 = .ok (.iconst 1, 1) := dk_4 (dk_at dksX1_receiveHello_14 5 rfl rfl)
theorem dX1_receiveHello_337 : decode cX1_receiveHello 337 = .ok (.iload 5, 2) := dk_21 5 (dk_at dksX1_receiveHello_14 6 rfl rfl)
theorem dX1_receiveHello_339 : decode cX1_receiveHello 339 = .ok (.iastore, 1) := dk_79 (dk_at dksX1_receiveHello_14 8 rfl rfl)
theorem dX1_receiveHello_340 : decode cX1_receiveHello 340 = .ok (.dup, 1) := dk_89 (dk_at dksX1_receiveHello_14 9 rfl rfl)
theorem dX1_receiveHello_341 : decode cX1_receiveHello 341 = .ok (.iconst 2, 1) := dk_5 (dk_at dksX1_receiveHello_14 10 rfl rfl)
theorem dX1_receiveHello_342 : decode cX1_receiveHello 342 = .ok (.aload_n 3, 1) := dk_45 (dk_at dksX1_receiveHello_14 11 rfl rfl)
theorem dX1_receiveHello_343 : decode cX1_receiveHello 343 = .ok (.iconst 1, 1) := dk_4 (dk_at dksX1_receiveHello_14 12 rfl rfl)
theorem dX1_receiveHello_344 : decode cX1_receiveHello 344 = .ok (.iaload, 1) := dk_46 (dk_at dksX1_receiveHello_14 13 rfl rfl)
theorem dX1_receiveHello_345 : decode cX1_receiveHello 345 = .ok (.iload 7, 2) := dk_21 7 (dk_at dksX1_receiveHello_14 14 rfl rfl)
theorem dX1_receiveHello_347 : decode cX1_receiveHello 347 = .ok (.invokestatic 269, 3) := dk_184 1 13 (dk_at dksX1_receiveHello_14 16 rfl rfl)
theorem dX1_receiveHello_350 : decode cX1_receiveHello 350 = .ok (.iastore, 1) := dk_79 (dk_at dksX1_receiveHello_14 19 rfl rfl)
theorem dX1_receiveHello_351 : decode cX1_receiveHello 351 = .ok (.dup, 1) := dk_89 (dk_at dksX1_receiveHello_14 20 rfl rfl)
theorem dX1_receiveHello_352 : decode cX1_receiveHello 352 = .ok (.iconst 3, 1) := dk_6 (dk_at dksX1_receiveHello_14 21 rfl rfl)
theorem dX1_receiveHello_353 : decode cX1_receiveHello 353 = .ok (.iload 4, 2) := dk_21 4 (dk_at dksX1_receiveHello_14 22 rfl rfl)
theorem dX1_receiveHello_355 : decode cX1_receiveHello 355 = .ok (.invokestatic 329, 3) := dk_184 1 73 (dk_at dksX1_receiveHello_15 0 rfl rfl)
theorem dX1_receiveHello_358 : decode cX1_receiveHello 358 = .ok (.iload 7, 2) := dk_21 7 (dk_at dksX1_receiveHello_15 3 rfl rfl)
theorem dX1_receiveHello_360 : decode cX1_receiveHello 360 = .ok (.invokestatic 269, 3) := dk_184 1 13 (dk_at dksX1_receiveHello_15 5 rfl rfl)
theorem dX1_receiveHello_363 : decode cX1_receiveHello 363 = .ok (.iastore, 1) := dk_79 (dk_at dksX1_receiveHello_15 8 rfl rfl)
theorem dX1_receiveHello_364 : decode cX1_receiveHello 364 = .ok (.invokestatic 325, 3) := dk_184 1 69 (dk_at dksX1_receiveHello_15 9 rfl rfl)
theorem dX1_receiveHello_367 : decode cX1_receiveHello 367 = .ok (.istore 9, 2) := dk_54 9 (dk_at dksX1_receiveHello_15 12 rfl rfl)
theorem dX1_receiveHello_369 : decode cX1_receiveHello 369 = .ok (.aload_n 0, 1) := dk_42 (dk_at dksX1_receiveHello_15 14 rfl rfl)
theorem dX1_receiveHello_370 : decode cX1_receiveHello 370 = .ok (.iload_n 1, 1) := dk_27 (dk_at dksX1_receiveHello_15 15 rfl rfl)
theorem dX1_receiveHello_371 : decode cX1_receiveHello 371 = .ok (.aload 6, 2) := dk_25 6 (dk_at dksX1_receiveHello_15 16 rfl rfl)
theorem dX1_receiveHello_373 : decode cX1_receiveHello 373 = .ok (.getfield 218, 3) := dk_180 0 218 (dk_at dksX1_receiveHello_15 18 rfl rfl)
theorem dX1_receiveHello_376 : decode cX1_receiveHello 376 = .ok (.iconst 2, 1) := dk_5 (dk_at dksX1_receiveHello_15 21 rfl rfl)
theorem dX1_receiveHello_377 : decode cX1_receiveHello 377 = .ok (.iload 9, 2) := dk_21 9 (dk_at dksX1_receiveHello_15 22 rfl rfl)
theorem dX1_receiveHello_379 : decode cX1_receiveHello 379 = .ok (.iconst 4, 1) := dk_7 (dk_at dksX1_receiveHello_16 0 rfl rfl)
theorem dX1_receiveHello_380 : decode cX1_receiveHello 380 = .ok (.newarray .int, 2) := dk_188_10 (dk_at dksX1_receiveHello_16 1 rfl rfl)
theorem dX1_receiveHello_382 : decode cX1_receiveHello 382 = .ok (.dup, 1) := dk_89 (dk_at dksX1_receiveHello_16 3 rfl rfl)
theorem dX1_receiveHello_383 : decode cX1_receiveHello 383 = .ok (.iconst 0, 1) := dk_3 (dk_at dksX1_receiveHello_16 4 rfl rfl)
theorem dX1_receiveHello_384 : decode cX1_receiveHello 384 = .ok (.aload_n 0, 1) := dk_42 (dk_at dksX1_receiveHello_16 5 rfl rfl)
theorem dX1_receiveHello_385 : decode cX1_receiveHello 385 = .ok (.getfield 339, 3) := dk_180 1 83 (dk_at dksX1_receiveHello_16 6 rfl rfl)
theorem dX1_receiveHello_388 : decode cX1_receiveHello 388 = .ok (.iastore, 1) := dk_79 (dk_at dksX1_receiveHello_16 9 rfl rfl)
theorem dX1_receiveHello_389 : decode cX1_receiveHello 389 = .ok (.dup, 1) := dk_89 (dk_at dksX1_receiveHello_16 10 rfl rfl)
theorem dX1_receiveHello_390 : decode cX1_receiveHello 390 = .ok (.iconst 1, 1) := dk_4 (dk_at dksX1_receiveHello_16 11 rfl rfl)
theorem dX1_receiveHello_391 : decode cX1_receiveHello 391 = .ok (.aload_n 3, 1) := dk_45 (dk_at dksX1_receiveHello_16 12 rfl rfl)
theorem dX1_receiveHello_392 : decode cX1_receiveHello 392 = .ok (.iconst 0, 1) := dk_3 (dk_at dksX1_receiveHello_16 13 rfl rfl)
theorem dX1_receiveHello_393 : decode cX1_receiveHello 393 = .ok (.iaload, 1) := dk_46 (dk_at dksX1_receiveHello_16 14 rfl rfl)
theorem dX1_receiveHello_394 : decode cX1_receiveHello 394 = .ok (.iastore, 1) := dk_79 (dk_at dksX1_receiveHello_16 15 rfl rfl)
theorem dX1_receiveHello_395 : decode cX1_receiveHello 395 = .ok (.dup, 1) := dk_89 (dk_at dksX1_receiveHello_16 16 rfl rfl)
theorem dX1_receiveHello_396 : decode cX1_receiveHello 396 = .ok (.iconst 2, 1) := dk_5 (dk_at dksX1_receiveHello_16 17 rfl rfl)
theorem dX1_receiveHello_397 : decode cX1_receiveHello 397 = .ok (.iload 8, 2) := dk_21 8 (dk_at dksX1_receiveHello_16 18 rfl rfl)
theorem dX1_receiveHello_399 : decode cX1_receiveHello 399 = .ok (.iastore, 1) := dk_79 (dk_at dksX1_receiveHello_16 20 rfl rfl)
theorem dX1_receiveHello_400 : decode cX1_receiveHello 400 = .ok (.dup, 1) := dk_89 (dk_at dksX1_receiveHello_16 21 rfl rfl)
theorem dX1_receiveHello_401 : decode cX1_receiveHello 401 = .ok (.iconst 3, 1) := dk_6 (dk_at dksX1_receiveHello_16 22 rfl rfl)
theorem dX1_receiveHello_402 : decode cX1_receiveHello 402 = .ok (.iload 9, 2) := dk_21 9 (dk_at dksX1_receiveHello_17 0 rfl rfl)
theorem dX1_receiveHello_404 : decode cX1_receiveHello 404 = .ok (.iconst 4, 1) := dk_7 (dk_at dksX1_receiveHello_17 2 rfl rfl)
theorem dX1_receiveHello_405 : decode cX1_receiveHello 405 = .ok (.newarray .int, 2) := dk_188_10 (dk_at dksX1_receiveHello_17 3 rfl rfl)
theorem dX1_receiveHello_407 : decode cX1_receiveHello 407 = .ok (.dup, 1) := dk_89 (dk_at dksX1_receiveHello_17 5 rfl rfl)
theorem dX1_receiveHello_408 : decode cX1_receiveHello 408 = .ok (.iconst 0, 1) := dk_3 (dk_at dksX1_receiveHello_17 6 rfl rfl)
theorem dX1_receiveHello_409 : decode cX1_receiveHello 409 = .ok (.iconst 2, 1) := dk_5 (dk_at dksX1_receiveHello_17 7 rfl rfl)
theorem dX1_receiveHello_410 : decode cX1_receiveHello 410 = .ok (.iastore, 1) := dk_79 (dk_at dksX1_receiveHello_17 8 rfl rfl)
theorem dX1_receiveHello_411 : decode cX1_receiveHello 411 = .ok (.dup, 1) := dk_89 (dk_at dksX1_receiveHello_17 9 rfl rfl)
theorem dX1_receiveHello_412 : decode cX1_receiveHello 412 = .ok (.iconst 1, 1) := dk_4 (dk_at dksX1_receiveHello_17 10 rfl rfl)
theorem dX1_receiveHello_413 : decode cX1_receiveHello 413 = .ok (.aload_n 0, 1) := dk_42 (dk_at dksX1_receiveHello_17 11 rfl rfl)
theorem dX1_receiveHello_414 : decode cX1_receiveHello 414 = .ok (.getfield 339, 3) := dk_180 1 83 (dk_at dksX1_receiveHello_17 12 rfl rfl)
theorem dX1_receiveHello_417 : decode cX1_receiveHello 417 = .ok (.iastore, 1) := dk_79 (dk_at dksX1_receiveHello_17 15 rfl rfl)
theorem dX1_receiveHello_418 : decode cX1_receiveHello 418 = .ok (.dup, 1) := dk_89 (dk_at dksX1_receiveHello_17 16 rfl rfl)
theorem dX1_receiveHello_419 : decode cX1_receiveHello 419 = .ok (.iconst 2, 1) := dk_5 (dk_at dksX1_receiveHello_17 17 rfl rfl)
theorem dX1_receiveHello_420 : decode cX1_receiveHello 420 = .ok (.aload_n 3, 1) := dk_45 (dk_at dksX1_receiveHello_17 18 rfl rfl)
theorem dX1_receiveHello_421 : decode cX1_receiveHello 421 = .ok (.iconst 0, 1) := dk_3 (dk_at dksX1_receiveHello_17 19 rfl rfl)
theorem dX1_receiveHello_422 : decode cX1_receiveHello 422 = .ok (.iaload, 1) := dk_46 (dk_at dksX1_receiveHello_17 20 rfl rfl)
theorem dX1_receiveHello_423 : decode cX1_receiveHello 423 = .ok (.iastore, 1) := dk_79 (dk_at dksX1_receiveHello_17 21 rfl rfl)
theorem dX1_receiveHello_424 : decode cX1_receiveHello 424 = .ok (.dup, 1) := dk_89 (dk_at dksX1_receiveHello_17 22 rfl rfl)
theorem dX1_receiveHello_425 : decode cX1_receiveHello 425 = .ok (.iconst 3, 1) := dk_6 (dk_at dksX1_receiveHello_17 23 rfl rfl)
theorem dX1_receiveHello_426 : decode cX1_receiveHello 426 = .ok (.iload 8, 2) := dk_21 8 (dk_at dksX1_receiveHello_18 0 rfl rfl)
theorem dX1_receiveHello_428 : decode cX1_receiveHello 428 = .ok (.iastore, 1) := dk_79 (dk_at dksX1_receiveHello_18 2 rfl rfl)
theorem dX1_receiveHello_429 : decode cX1_receiveHello 429 = .ok (.invokestatic 280, 3) := dk_184 1 24 (dk_at dksX1_receiveHello_18 3 rfl rfl)
theorem dX1_receiveHello_432 : decode cX1_receiveHello 432 = .ok (.iastore, 1) := dk_79 (dk_at dksX1_receiveHello_18 6 rfl rfl)
theorem dX1_receiveHello_433 : decode cX1_receiveHello 433 = .ok (.invokevirtual 332, 3) := dk_182 1 76 (dk_at dksX1_receiveHello_18 7 rfl rfl)
theorem dX1_receiveHello_436 : decode cX1_receiveHello 436 = .ok (.aload 6, 2) := dk_25 6 (dk_at dksX1_receiveHello_18 10 rfl rfl)
theorem dX1_receiveHello_438 : decode cX1_receiveHello 438 = .ok (.new 117, 3) := dk_187 0 117 (dk_at dksX1_receiveHello_18 12 rfl rfl)
theorem dX1_receiveHello_441 : decode cX1_receiveHello 441 = .ok (.dup, 1) := dk_89 (dk_at dksX1_receiveHello_18 15 rfl rfl)
theorem dX1_receiveHello_442 : decode cX1_receiveHello 442 = .ok (.aload_n 0, 1) := dk_42 (dk_at dksX1_receiveHello_18 16 rfl rfl)
theorem dX1_receiveHello_443 : decode cX1_receiveHello 443 = .ok (.getfield 339, 3) := dk_180 1 83 (dk_at dksX1_receiveHello_18 17 rfl rfl)
theorem dX1_receiveHello_446 : decode cX1_receiveHello 446 = .ok (.aload_n 3, 1) := dk_45 (dk_at dksX1_receiveHello_18 20 rfl rfl)
theorem dX1_receiveHello_447 : decode cX1_receiveHello 447 = .ok (.iconst 0, 1) := dk_3 (dk_at dksX1_receiveHello_18 21 rfl rfl)
theorem dX1_receiveHello_448 : decode cX1_receiveHello 448 = .ok (.iaload, 1) := dk_46 (dk_at dksX1_receiveHello_18 22 rfl rfl)
theorem dX1_receiveHello_449 : decode cX1_receiveHello 449 = .ok (.aload_n 0, 1) := dk_42 (dk_at dksX1_receiveHello_18 23 rfl rfl)
theorem dX1_receiveHello_450 : decode cX1_receiveHello 450 = .ok (.getfield 58, 3) := dk_180 0 58 (dk_at dksX1_receiveHello_19 0 rfl rfl)
theorem dX1_receiveHello_453 : decode cX1_receiveHello 453 = .ok (.iconst 3, 1) := dk_6 (dk_at dksX1_receiveHello_19 3 rfl rfl)
theorem dX1_receiveHello_454 : decode cX1_receiveHello 454 = .ok (.newarray .int, 2) := dk_188_10 (dk_at dksX1_receiveHello_19 4 rfl rfl)
theorem dX1_receiveHello_456 : decode cX1_receiveHello 456 = .ok (.dup, 1) := dk_89 (dk_at dksX1_receiveHello_19 6 rfl rfl)
theorem dX1_receiveHello_457 : decode cX1_receiveHello 457 = .ok (.iconst 0, 1) := dk_3 (dk_at dksX1_receiveHello_19 7 rfl rfl)
theorem dX1_receiveHello_458 : decode cX1_receiveHello 458 = .ok (.iconst 5, 1) := dk_8 (dk_at dksX1_receiveHello_19 8 rfl rfl)
theorem dX1_receiveHello_459 : decode cX1_receiveHello 459 = .ok (.iastore, 1) := dk_79 (dk_at dksX1_receiveHello_19 9 rfl rfl)
theorem dX1_receiveHello_460 : decode cX1_receiveHello 460 = .ok (.dup, 1) := dk_89 (dk_at dksX1_receiveHello_19 10 rfl rfl)
theorem dX1_receiveHello_461 : decode cX1_receiveHello 461 = .ok (.iconst 1, 1) := dk_4 (dk_at dksX1_receiveHello_19 11 rfl rfl)
theorem dX1_receiveHello_462 : decode cX1_receiveHello 462 = .ok (.iload 9, 2) := dk_21 9 (dk_at dksX1_receiveHello_19 12 rfl rfl)
theorem dX1_receiveHello_464 : decode cX1_receiveHello 464 = .ok (.iastore, 1) := dk_79 (dk_at dksX1_receiveHello_19 14 rfl rfl)
theorem dX1_receiveHello_465 : decode cX1_receiveHello 465 = .ok (.dup, 1) := dk_89 (dk_at dksX1_receiveHello_19 15 rfl rfl)
theorem dX1_receiveHello_466 : decode cX1_receiveHello 466 = .ok (.iconst 2, 1) := dk_5 (dk_at dksX1_receiveHello_19 16 rfl rfl)
theorem dX1_receiveHello_467 : decode cX1_receiveHello 467 = .ok (.iconst 1, 1) := dk_4 (dk_at dksX1_receiveHello_19 17 rfl rfl)
theorem dX1_receiveHello_468 : decode cX1_receiveHello 468 = .ok (.iastore, 1) := dk_79 (dk_at dksX1_receiveHello_19 18 rfl rfl)
theorem dX1_receiveHello_469 : decode cX1_receiveHello 469 = .ok (.invokestatic 325, 3) := dk_184 1 69 (dk_at dksX1_receiveHello_19 19 rfl rfl)
theorem dX1_receiveHello_472 : decode cX1_receiveHello 472 = .ok (.iconst 3, 1) := dk_6 (dk_at dksX1_receiveHello_19 22 rfl rfl)
theorem dX1_receiveHello_473 : decode cX1_receiveHello 473 = .ok (.newarray .int, 2) := dk_188_10 (dk_at dksX1_receiveHello_20 0 rfl rfl)
theorem dX1_receiveHello_475 : decode cX1_receiveHello 475 = .ok (.dup, 1) := dk_89 (dk_at dksX1_receiveHello_20 2 rfl rfl)
theorem dX1_receiveHello_476 : decode cX1_receiveHello 476 = .ok (.iconst 0, 1) := dk_3 (dk_at dksX1_receiveHello_20 3 rfl rfl)
theorem dX1_receiveHello_477 : decode cX1_receiveHello 477 = .ok (.iconst 5, 1) := dk_8 (dk_at dksX1_receiveHello_20 4 rfl rfl)
theorem dX1_receiveHello_478 : decode cX1_receiveHello 478 = .ok (.iastore, 1) := dk_79 (dk_at dksX1_receiveHello_20 5 rfl rfl)
theorem dX1_receiveHello_479 : decode cX1_receiveHello 479 = .ok (.dup, 1) := dk_89 (dk_at dksX1_receiveHello_20 6 rfl rfl)
theorem dX1_receiveHello_480 : decode cX1_receiveHello 480 = .ok (.iconst 1, 1) := dk_4 (dk_at dksX1_receiveHello_20 7 rfl rfl)
theorem dX1_receiveHello_481 : decode cX1_receiveHello 481 = .ok (.iload 9, 2) := dk_21 9 (dk_at dksX1_receiveHello_20 8 rfl rfl)
theorem dX1_receiveHello_483 : decode cX1_receiveHello 483 = .ok (.iastore, 1) := dk_79 (dk_at dksX1_receiveHello_20 10 rfl rfl)
theorem dX1_receiveHello_484 : decode cX1_receiveHello 484 = .ok (.dup, 1) := dk_89 (dk_at dksX1_receiveHello_20 11 rfl rfl)
theorem dX1_receiveHello_485 : decode cX1_receiveHello 485 = .ok (.iconst 2, 1) := dk_5 (dk_at dksX1_receiveHello_20 12 rfl rfl)
theorem dX1_receiveHello_486 : decode cX1_receiveHello 486 = .ok (.iconst 0, 1) := dk_3 (dk_at dksX1_receiveHello_20 13 rfl rfl)
theorem dX1_receiveHello_487 : decode cX1_receiveHello 487 = .ok (.iastore, 1) := dk_79 (dk_at dksX1_receiveHello_20 14 rfl rfl)
theorem dX1_receiveHello_488 : decode cX1_receiveHello 488 = .ok (.invokestatic 325, 3) := dk_184 1 69 (dk_at dksX1_receiveHello_20 15 rfl rfl)
theorem dX1_receiveHello_491 : decode cX1_receiveHello 491 = .ok (.iconst 0, 1) := dk_3 (dk_at dksX1_receiveHello_20 18 rfl rfl)
theorem dX1_receiveHello_492 : decode cX1_receiveHello 492 = .ok (.invokespecial 345, 3) := dk_183 1 89 (dk_at dksX1_receiveHello_20 19 rfl rfl)
theorem dX1_receiveHello_495 : decode cX1_receiveHello 495 = .ok (.putfield 348, 3) := dk_181 1 92 (dk_at dksX1_receiveHello_21 0 rfl rfl)
theorem dX1_receiveHello_498 : decode cX1_receiveHello 498 = .ok (.iconst 3, 1) := dk_6 (dk_at dksX1_receiveHello_21 3 rfl rfl)
theorem dX1_receiveHello_499 : decode cX1_receiveHello 499 = .ok (.ireturn, 1) := dk_172 (dk_at dksX1_receiveHello_21 4 rfl rfl)
abbrev cX1_cookieOf : ByteArray := prog_1_method_54_code
def yX1_cookieOf : MethodName := ⟨RX1, "cookieOf", "(II)I"⟩
def dkwX1_cookieOf_1 : List UInt8 := [79, 89, 6, 28, 79, 184, 1, 69, 172]
abbrev dktX1_cookieOf_1 : List UInt8 := dkwX1_cookieOf_1 ++ []
def dkwX1_cookieOf_0 : List UInt8 := [7, 188, 10, 89, 3, 16, 6, 79, 89, 4, 27, 184, 1, 80, 79, 89, 5, 42, 180, 0, 58, 16, 60, 108]
abbrev dktX1_cookieOf_0 : List UInt8 := dkwX1_cookieOf_0 ++ dktX1_cookieOf_1
theorem dksX1_cookieOf_0 : cX1_cookieOf.data.toList.drop 0 = dktX1_cookieOf_0 := by decide +kernel
theorem dksX1_cookieOf_1 : cX1_cookieOf.data.toList.drop 24 = dktX1_cookieOf_1 := dk_seg dksX1_cookieOf_0 24 rfl rfl
theorem dX1_cookieOf_0 : decode cX1_cookieOf 0 = .ok (.iconst 4, 1) := dk_7 (dk_at dksX1_cookieOf_0 0 rfl rfl)
theorem dX1_cookieOf_1 : decode cX1_cookieOf 1 = .ok (.newarray .int, 2) := dk_188_10 (dk_at dksX1_cookieOf_0 1 rfl rfl)
theorem dX1_cookieOf_3 : decode cX1_cookieOf 3 = .ok (.dup, 1) := dk_89 (dk_at dksX1_cookieOf_0 3 rfl rfl)
theorem dX1_cookieOf_4 : decode cX1_cookieOf 4 = .ok (.iconst 0, 1) := dk_3 (dk_at dksX1_cookieOf_0 4 rfl rfl)
theorem dX1_cookieOf_5 : decode cX1_cookieOf 5 = .ok (.bipush 6, 2) := dk_16 6 (dk_at dksX1_cookieOf_0 5 rfl rfl)
theorem dX1_cookieOf_7 : decode cX1_cookieOf 7 = .ok (.iastore, 1) := dk_79 (dk_at dksX1_cookieOf_0 7 rfl rfl)
theorem dX1_cookieOf_8 : decode cX1_cookieOf 8 = .ok (.dup, 1) := dk_89 (dk_at dksX1_cookieOf_0 8 rfl rfl)
theorem dX1_cookieOf_9 : decode cX1_cookieOf 9 = .ok (.iconst 1, 1) := dk_4 (dk_at dksX1_cookieOf_0 9 rfl rfl)
theorem dX1_cookieOf_10 : decode cX1_cookieOf 10 = .ok (.iload_n 1, 1) := dk_27 (dk_at dksX1_cookieOf_0 10 rfl rfl)
theorem dX1_cookieOf_11 : decode cX1_cookieOf 11 = .ok (.invokestatic 336, 3) := dk_184 1 80 (dk_at dksX1_cookieOf_0 11 rfl rfl)
theorem dX1_cookieOf_14 : decode cX1_cookieOf 14 = .ok (.iastore, 1) := dk_79 (dk_at dksX1_cookieOf_0 14 rfl rfl)
theorem dX1_cookieOf_15 : decode cX1_cookieOf 15 = .ok (.dup, 1) := dk_89 (dk_at dksX1_cookieOf_0 15 rfl rfl)
theorem dX1_cookieOf_16 : decode cX1_cookieOf 16 = .ok (.iconst 2, 1) := dk_5 (dk_at dksX1_cookieOf_0 16 rfl rfl)
theorem dX1_cookieOf_17 : decode cX1_cookieOf 17 = .ok (.aload_n 0, 1) := dk_42 (dk_at dksX1_cookieOf_0 17 rfl rfl)
theorem dX1_cookieOf_18 : decode cX1_cookieOf 18 = .ok (.getfield 58, 3) := dk_180 0 58 (dk_at dksX1_cookieOf_0 18 rfl rfl)
theorem dX1_cookieOf_21 : decode cX1_cookieOf 21 = .ok (.bipush 60, 2) := dk_16 60 (dk_at dksX1_cookieOf_0 21 rfl rfl)
theorem dX1_cookieOf_23 : decode cX1_cookieOf 23 = .ok (.idiv, 1) := dk_108 (dk_at dksX1_cookieOf_0 23 rfl rfl)
theorem dX1_cookieOf_24 : decode cX1_cookieOf 24 = .ok (.iastore, 1) := dk_79 (dk_at dksX1_cookieOf_1 0 rfl rfl)
theorem dX1_cookieOf_25 : decode cX1_cookieOf 25 = .ok (.dup, 1) := dk_89 (dk_at dksX1_cookieOf_1 1 rfl rfl)
theorem dX1_cookieOf_26 : decode cX1_cookieOf 26 = .ok (.iconst 3, 1) := dk_6 (dk_at dksX1_cookieOf_1 2 rfl rfl)
theorem dX1_cookieOf_27 : decode cX1_cookieOf 27 = .ok (.iload_n 2, 1) := dk_28 (dk_at dksX1_cookieOf_1 3 rfl rfl)
theorem dX1_cookieOf_28 : decode cX1_cookieOf 28 = .ok (.iastore, 1) := dk_79 (dk_at dksX1_cookieOf_1 4 rfl rfl)
theorem dX1_cookieOf_29 : decode cX1_cookieOf 29 = .ok (.invokestatic 325, 3) := dk_184 1 69 (dk_at dksX1_cookieOf_1 5 rfl rfl)
theorem dX1_cookieOf_32 : decode cX1_cookieOf 32 = .ok (.ireturn, 1) := dk_172 (dk_at dksX1_cookieOf_1 8 rfl rfl)
abbrev cX1_receiveReply : ByteArray := prog_1_method_41_code
def yX1_receiveReply : MethodName := ⟨RX1, "receiveReply", "(ILBurrowline$Letter;)I"⟩
def dkwX1_receiveReply_10 : List UInt8 := [42, 27, 21, 4, 182, 1, 105, 6, 172]
abbrev dktX1_receiveReply_10 : List UInt8 := dkwX1_receiveReply_10 ++ []
def dkwX1_receiveReply_9 : List UInt8 := [181, 0, 104, 25, 5, 180, 0, 244, 154, 0, 16, 42, 27, 21, 4, 2, 2, 2, 182, 0, 112, 167, 0, 10]
abbrev dktX1_receiveReply_9 : List UInt8 := dkwX1_receiveReply_9 ++ dktX1_receiveReply_10
def dkwX1_receiveReply_8 : List UInt8 := [188, 10, 89, 3, 8, 79, 89, 4, 21, 7, 79, 89, 5, 4, 79, 184, 1, 69, 4, 183, 1, 89]
abbrev dktX1_receiveReply_8 : List UInt8 := dkwX1_receiveReply_8 ++ dktX1_receiveReply_9
def dkwX1_receiveReply_7 : List UInt8 := [180, 0, 58, 6, 188, 10, 89, 3, 8, 79, 89, 4, 21, 7, 79, 89, 5, 3, 79, 184, 1, 69, 6]
abbrev dktX1_receiveReply_7 : List UInt8 := dkwX1_receiveReply_7 ++ dktX1_receiveReply_8
def dkwX1_receiveReply_6 : List UInt8 := [25, 5, 25, 5, 180, 0, 104, 181, 1, 102, 25, 5, 187, 0, 117, 89, 45, 4, 46, 45, 3, 46, 42]
abbrev dktX1_receiveReply_6 : List UInt8 := dkwX1_receiveReply_6 ++ dktX1_receiveReply_7
def dkwX1_receiveReply_5 : List UInt8 := [184, 1, 24, 159, 0, 6, 16, 254, 172, 25, 5, 1, 181, 0, 146, 25, 5, 44, 180, 0, 206, 181, 0, 218]
abbrev dktX1_receiveReply_5 : List UInt8 := dkwX1_receiveReply_5 ++ dktX1_receiveReply_6
def dkwX1_receiveReply_4 : List UInt8 := [89, 3, 5, 79, 89, 4, 45, 3, 46, 79, 89, 5, 45, 4, 46, 79, 89, 6, 45, 5, 46, 79]
abbrev dktX1_receiveReply_4 : List UInt8 := dkwX1_receiveReply_4 ++ dktX1_receiveReply_5
def dkwX1_receiveReply_3 : List UInt8 := [45, 5, 46, 27, 184, 1, 80, 184, 1, 13, 79, 184, 1, 69, 54, 7, 45, 6, 46, 21, 7, 7, 188, 10]
abbrev dktX1_receiveReply_3 : List UInt8 := dkwX1_receiveReply_3 ++ dktX1_receiveReply_4
def dkwX1_receiveReply_2 : List UInt8 := [89, 4, 25, 6, 180, 1, 97, 79, 89, 5, 45, 5, 46, 25, 6, 180, 1, 100, 184, 1, 13, 79, 89, 6]
abbrev dktX1_receiveReply_2 : List UInt8 := dkwX1_receiveReply_2 ++ dktX1_receiveReply_3
def dkwX1_receiveReply_1 : List UInt8 := [180, 0, 25, 27, 50, 21, 4, 50, 58, 5, 25, 5, 180, 0, 146, 58, 6, 7, 188, 10, 89, 3, 7, 79]
abbrev dktX1_receiveReply_1 : List UInt8 := dkwX1_receiveReply_1 ++ dktX1_receiveReply_2
def dkwX1_receiveReply_0 : List UInt8 := [44, 180, 0, 191, 78, 42, 27, 45, 4, 46, 182, 1, 94, 54, 4, 21, 4, 2, 160, 0, 5, 2, 172, 42]
abbrev dktX1_receiveReply_0 : List UInt8 := dkwX1_receiveReply_0 ++ dktX1_receiveReply_1
theorem dksX1_receiveReply_0 : cX1_receiveReply.data.toList.drop 0 = dktX1_receiveReply_0 := by decide +kernel
theorem dksX1_receiveReply_1 : cX1_receiveReply.data.toList.drop 24 = dktX1_receiveReply_1 := dk_seg dksX1_receiveReply_0 24 rfl rfl
theorem dksX1_receiveReply_2 : cX1_receiveReply.data.toList.drop 48 = dktX1_receiveReply_2 := dk_seg dksX1_receiveReply_1 24 rfl rfl
theorem dksX1_receiveReply_3 : cX1_receiveReply.data.toList.drop 72 = dktX1_receiveReply_3 := dk_seg dksX1_receiveReply_2 24 rfl rfl
theorem dksX1_receiveReply_4 : cX1_receiveReply.data.toList.drop 96 = dktX1_receiveReply_4 := dk_seg dksX1_receiveReply_3 24 rfl rfl
theorem dksX1_receiveReply_5 : cX1_receiveReply.data.toList.drop 118 = dktX1_receiveReply_5 := dk_seg dksX1_receiveReply_4 22 rfl rfl
theorem dksX1_receiveReply_6 : cX1_receiveReply.data.toList.drop 142 = dktX1_receiveReply_6 := dk_seg dksX1_receiveReply_5 24 rfl rfl
theorem dksX1_receiveReply_7 : cX1_receiveReply.data.toList.drop 165 = dktX1_receiveReply_7 := dk_seg dksX1_receiveReply_6 23 rfl rfl
theorem dksX1_receiveReply_8 : cX1_receiveReply.data.toList.drop 188 = dktX1_receiveReply_8 := dk_seg dksX1_receiveReply_7 23 rfl rfl
theorem dksX1_receiveReply_9 : cX1_receiveReply.data.toList.drop 210 = dktX1_receiveReply_9 := dk_seg dksX1_receiveReply_8 22 rfl rfl
theorem dksX1_receiveReply_10 : cX1_receiveReply.data.toList.drop 234 = dktX1_receiveReply_10 := dk_seg dksX1_receiveReply_9 24 rfl rfl
theorem dX1_receiveReply_0 : decode cX1_receiveReply 0 = .ok (.aload_n 2, 1) := dk_44 (dk_at dksX1_receiveReply_0 0 rfl rfl)
theorem dX1_receiveReply_1 : decode cX1_receiveReply 1 = .ok (.getfield 191, 3) := dk_180 0 191 (dk_at dksX1_receiveReply_0 1 rfl rfl)
theorem dX1_receiveReply_4 : decode cX1_receiveReply 4 = .ok (.astore_n 3, 1) := dk_78 (dk_at dksX1_receiveReply_0 4 rfl rfl)
theorem dX1_receiveReply_5 : decode cX1_receiveReply 5 = .ok (.aload_n 0, 1) := dk_42 (dk_at dksX1_receiveReply_0 5 rfl rfl)
theorem dX1_receiveReply_6 : decode cX1_receiveReply 6 = .ok (.iload_n 1, 1) := dk_27 (dk_at dksX1_receiveReply_0 6 rfl rfl)
theorem dX1_receiveReply_7 : decode cX1_receiveReply 7 = .ok (.aload_n 3, 1) := dk_45 (dk_at dksX1_receiveReply_0 7 rfl rfl)
theorem dX1_receiveReply_8 : decode cX1_receiveReply 8 = .ok (.iconst 1, 1) := dk_4 (dk_at dksX1_receiveReply_0 8 rfl rfl)
theorem dX1_receiveReply_9 : decode cX1_receiveReply 9 = .ok (.iaload, 1) := dk_46 (dk_at dksX1_receiveReply_0 9 rfl rfl)
theorem dX1_receiveReply_10 : decode cX1_receiveReply 10 = .ok (.invokevirtual 350, 3) := dk_182 1 94 (dk_at dksX1_receiveReply_0 10 rfl rfl)
theorem dX1_receiveReply_13 : decode cX1_receiveReply 13 = .ok (.istore 4, 2) := dk_54 4 (dk_at dksX1_receiveReply_0 13 rfl rfl)
theorem dX1_receiveReply_15 : decode cX1_receiveReply 15 = .ok (.iload 4, 2) := dk_21 4 (dk_at dksX1_receiveReply_0 15 rfl rfl)
theorem dX1_receiveReply_17 : decode cX1_receiveReply 17 = .ok (.iconst (-1), 1) := dk_2 (dk_at dksX1_receiveReply_0 17 rfl rfl)
theorem dX1_receiveReply_18 : decode cX1_receiveReply 18 = .ok (.if_icmp .ne 5, 3) := dk_160 0 5 (dk_at dksX1_receiveReply_0 18 rfl rfl)
theorem dX1_receiveReply_21 : decode cX1_receiveReply 21 = .ok (.iconst (-1), 1) := dk_2 (dk_at dksX1_receiveReply_0 21 rfl rfl)
theorem dX1_receiveReply_22 : decode cX1_receiveReply 22 = .ok (.ireturn, 1) := dk_172 (dk_at dksX1_receiveReply_0 22 rfl rfl)
theorem dX1_receiveReply_23 : decode cX1_receiveReply 23 = .ok (.aload_n 0, 1) := dk_42 (dk_at dksX1_receiveReply_0 23 rfl rfl)
theorem dX1_receiveReply_24 : decode cX1_receiveReply 24 = .ok (.getfield 25, 3) := dk_180 0 25 (dk_at dksX1_receiveReply_1 0 rfl rfl)
theorem dX1_receiveReply_27 : decode cX1_receiveReply 27 = .ok (.iload_n 1, 1) := dk_27 (dk_at dksX1_receiveReply_1 3 rfl rfl)
theorem dX1_receiveReply_28 : decode cX1_receiveReply 28 = .ok (.aaload, 1) := dk_50 (dk_at dksX1_receiveReply_1 4 rfl rfl)
theorem dX1_receiveReply_29 : decode cX1_receiveReply 29 = .ok (.iload 4, 2) := dk_21 4 (dk_at dksX1_receiveReply_1 5 rfl rfl)
theorem dX1_receiveReply_31 : decode cX1_receiveReply 31 = .ok (.aaload, 1) := dk_50 (dk_at dksX1_receiveReply_1 7 rfl rfl)
theorem dX1_receiveReply_32 : decode cX1_receiveReply 32 = .ok (.astore 5, 2) := dk_58 5 (dk_at dksX1_receiveReply_1 8 rfl rfl)
theorem dX1_receiveReply_34 : decode cX1_receiveReply 34 = .ok (.aload 5, 2) := dk_25 5 (dk_at dksX1_receiveReply_1 10 rfl rfl)
theorem dX1_receiveReply_36 : decode cX1_receiveReply 36 = .ok (.getfield 146, 3) := dk_180 0 146 (dk_at dksX1_receiveReply_1 12 rfl rfl)
theorem dX1_receiveReply_39 : decode cX1_receiveReply 39 = .ok (.astore 6, 2) := dk_58 6 (dk_at dksX1_receiveReply_1 15 rfl rfl)
theorem dX1_receiveReply_41 : decode cX1_receiveReply 41 = .ok (.iconst 4, 1) := dk_7 (dk_at dksX1_receiveReply_1 17 rfl rfl)
theorem dX1_receiveReply_42 : decode cX1_receiveReply 42 = .ok (.newarray .int, 2) := dk_188_10 (dk_at dksX1_receiveReply_1 18 rfl rfl)
theorem dX1_receiveReply_44 : decode cX1_receiveReply 44 = .ok (.dup, 1) := dk_89 (dk_at dksX1_receiveReply_1 20 rfl rfl)
theorem dX1_receiveReply_45 : decode cX1_receiveReply 45 = .ok (.iconst 0, 1) := dk_3 (dk_at dksX1_receiveReply_1 21 rfl rfl)
theorem dX1_receiveReply_46 : decode cX1_receiveReply 46 = .ok (.iconst 4, 1) := dk_7 (dk_at dksX1_receiveReply_1 22 rfl rfl)
theorem dX1_receiveReply_47 : decode cX1_receiveReply 47 = .ok (.iastore, 1) := dk_79 (dk_at dksX1_receiveReply_1 23 rfl rfl)
theorem dX1_receiveReply_48 : decode cX1_receiveReply 48 = .ok (.dup, 1) := dk_89 (dk_at dksX1_receiveReply_2 0 rfl rfl)
theorem dX1_receiveReply_49 : decode cX1_receiveReply 49 = .ok (.iconst 1, 1) := dk_4 (dk_at dksX1_receiveReply_2 1 rfl rfl)
theorem dX1_receiveReply_50 : decode cX1_receiveReply 50 = .ok (.aload 6, 2) := dk_25 6 (dk_at dksX1_receiveReply_2 2 rfl rfl)
theorem dX1_receiveReply_52 : decode cX1_receiveReply 52 = .ok (.getfield 353, 3) := dk_180 1 97 (dk_at dksX1_receiveReply_2 4 rfl rfl)
theorem dX1_receiveReply_55 : decode cX1_receiveReply 55 = .ok (.iastore, 1) := dk_79 (dk_at dksX1_receiveReply_2 7 rfl rfl)
theorem dX1_receiveReply_56 : decode cX1_receiveReply 56 = .ok (.dup, 1) := dk_89 (dk_at dksX1_receiveReply_2 8 rfl rfl)
theorem dX1_receiveReply_57 : decode cX1_receiveReply 57 = .ok (.iconst 2, 1) := dk_5 (dk_at dksX1_receiveReply_2 9 rfl rfl)
theorem dX1_receiveReply_58 : decode cX1_receiveReply 58 = .ok (.aload_n 3, 1) := dk_45 (dk_at dksX1_receiveReply_2 10 rfl rfl)
theorem dX1_receiveReply_59 : decode cX1_receiveReply 59 = .ok (.iconst 2, 1) := dk_5 (dk_at dksX1_receiveReply_2 11 rfl rfl)
theorem dX1_receiveReply_60 : decode cX1_receiveReply 60 = .ok (.iaload, 1) := dk_46 (dk_at dksX1_receiveReply_2 12 rfl rfl)
theorem dX1_receiveReply_61 : decode cX1_receiveReply 61 = .ok (.aload 6, 2) := dk_25 6 (dk_at dksX1_receiveReply_2 13 rfl rfl)
theorem dX1_receiveReply_63 : decode cX1_receiveReply 63 = .ok (.getfield 356, 3) := dk_180 1 100 (dk_at dksX1_receiveReply_2 15 rfl rfl)
theorem dX1_receiveReply_66 : decode cX1_receiveReply 66 = .ok (.invokestatic 269, 3) := dk_184 1 13 (dk_at dksX1_receiveReply_2 18 rfl rfl)
theorem dX1_receiveReply_69 : decode cX1_receiveReply 69 = .ok (.iastore, 1) := dk_79 (dk_at dksX1_receiveReply_2 21 rfl rfl)
theorem dX1_receiveReply_70 : decode cX1_receiveReply 70 = .ok (.dup, 1) := dk_89 (dk_at dksX1_receiveReply_2 22 rfl rfl)
theorem dX1_receiveReply_71 : decode cX1_receiveReply 71 = .ok (.iconst 3, 1) := dk_6 (dk_at dksX1_receiveReply_2 23 rfl rfl)
theorem dX1_receiveReply_72 : decode cX1_receiveReply 72 = .ok (.aload_n 3, 1) := dk_45 (dk_at dksX1_receiveReply_3 0 rfl rfl)
theorem dX1_receiveReply_73 : decode cX1_receiveReply 73 = .ok (.iconst 2, 1) := dk_5 (dk_at dksX1_receiveReply_3 1 rfl rfl)
theorem dX1_receiveReply_74 : decode cX1_receiveReply 74 = .ok (.iaload, 1) := dk_46 (dk_at dksX1_receiveReply_3 2 rfl rfl)
theorem dX1_receiveReply_75 : decode cX1_receiveReply 75 = .ok (.iload_n 1, 1) := dk_27 (dk_at dksX1_receiveReply_3 3 rfl rfl)
theorem dX1_receiveReply_76 : decode cX1_receiveReply 76 = .ok (.invokestatic 336, 3) := dk_184 1 80 (dk_at dksX1_receiveReply_3 4 rfl rfl)
theorem dX1_receiveReply_79 : decode cX1_receiveReply 79 = .ok (.invokestatic 269, 3) := dk_184 1 13 (dk_at dksX1_receiveReply_3 7 rfl rfl)
theorem dX1_receiveReply_82 : decode cX1_receiveReply 82 = .ok (.iastore, 1) := dk_79 (dk_at dksX1_receiveReply_3 10 rfl rfl)
theorem dX1_receiveReply_83 : decode cX1_receiveReply 83 = .ok (.invokestatic 325, 3) := dk_184 1 69 (dk_at dksX1_receiveReply_3 11 rfl rfl)
theorem dX1_receiveReply_86 : decode cX1_receiveReply 86 = .ok (.istore 7, 2) := dk_54 7 (dk_at dksX1_receiveReply_3 14 rfl rfl)
theorem dX1_receiveReply_88 : decode cX1_receiveReply 88 = .ok (.aload_n 3, 1) := dk_45 (dk_at dksX1_receiveReply_3 16 rfl rfl)
theorem dX1_receiveReply_89 : decode cX1_receiveReply 89 = .ok (.iconst 3, 1) := dk_6 (dk_at dksX1_receiveReply_3 17 rfl rfl)
theorem dX1_receiveReply_90 : decode cX1_receiveReply 90 = .ok (.iaload, 1) := dk_46 (dk_at dksX1_receiveReply_3 18 rfl rfl)
theorem dX1_receiveReply_91 : decode cX1_receiveReply 91 = .ok (.iload 7, 2) := dk_21 7 (dk_at dksX1_receiveReply_3 19 rfl rfl)
theorem dX1_receiveReply_93 : decode cX1_receiveReply 93 = .ok (.iconst 4, 1) := dk_7 (dk_at dksX1_receiveReply_3 21 rfl rfl)
theorem dX1_receiveReply_94 : decode cX1_receiveReply 94 = .ok (.newarray .int, 2) := dk_188_10 (dk_at dksX1_receiveReply_3 22 rfl rfl)
theorem dX1_receiveReply_96 : decode cX1_receiveReply 96 = .ok (.dup, 1) := dk_89 (dk_at dksX1_receiveReply_4 0 rfl rfl)
theorem dX1_receiveReply_97 : decode cX1_receiveReply 97 = .ok (.iconst 0, 1) := dk_3 (dk_at dksX1_receiveReply_4 1 rfl rfl)
theorem dX1_receiveReply_98 : decode cX1_receiveReply 98 = .ok (.iconst 2, 1) := dk_5 (dk_at dksX1_receiveReply_4 2 rfl rfl)
theorem dX1_receiveReply_99 : decode cX1_receiveReply 99 = .ok (.iastore, 1) := dk_79 (dk_at dksX1_receiveReply_4 3 rfl rfl)
theorem dX1_receiveReply_100 : decode cX1_receiveReply 100 = .ok (.dup, 1) := dk_89 (dk_at dksX1_receiveReply_4 4 rfl rfl)
theorem dX1_receiveReply_101 : decode cX1_receiveReply 101 = .ok (.iconst 1, 1) := dk_4 (dk_at dksX1_receiveReply_4 5 rfl rfl)
theorem dX1_receiveReply_102 : decode cX1_receiveReply 102 = .ok (.aload_n 3, 1) := dk_45 (dk_at dksX1_receiveReply_4 6 rfl rfl)
theorem dX1_receiveReply_103 : decode cX1_receiveReply 103 = .ok (.iconst 0, 1) := dk_3 (dk_at dksX1_receiveReply_4 7 rfl rfl)
theorem dX1_receiveReply_104 : decode cX1_receiveReply 104 = .ok (.iaload, 1) := dk_46 (dk_at dksX1_receiveReply_4 8 rfl rfl)
theorem dX1_receiveReply_105 : decode cX1_receiveReply 105 = .ok (.iastore, 1) := dk_79 (dk_at dksX1_receiveReply_4 9 rfl rfl)
theorem dX1_receiveReply_106 : decode cX1_receiveReply 106 = .ok (.dup, 1) := dk_89 (dk_at dksX1_receiveReply_4 10 rfl rfl)
theorem dX1_receiveReply_107 : decode cX1_receiveReply 107 = .ok (.iconst 2, 1) := dk_5 (dk_at dksX1_receiveReply_4 11 rfl rfl)
theorem dX1_receiveReply_108 : decode cX1_receiveReply 108 = .ok (.aload_n 3, 1) := dk_45 (dk_at dksX1_receiveReply_4 12 rfl rfl)
theorem dX1_receiveReply_109 : decode cX1_receiveReply 109 = .ok (.iconst 1, 1) := dk_4 (dk_at dksX1_receiveReply_4 13 rfl rfl)
theorem dX1_receiveReply_110 : decode cX1_receiveReply 110 = .ok (.iaload, 1) := dk_46 (dk_at dksX1_receiveReply_4 14 rfl rfl)
theorem dX1_receiveReply_111 : decode cX1_receiveReply 111 = .ok (.iastore, 1) := dk_79 (dk_at dksX1_receiveReply_4 15 rfl rfl)
theorem dX1_receiveReply_112 : decode cX1_receiveReply 112 = .ok (.dup, 1) := dk_89 (dk_at dksX1_receiveReply_4 16 rfl rfl)
theorem dX1_receiveReply_113 : decode cX1_receiveReply 113 = .ok (.iconst 3, 1) := dk_6 (dk_at dksX1_receiveReply_4 17 rfl rfl)
theorem dX1_receiveReply_114 : decode cX1_receiveReply 114 = .ok (.aload_n 3, 1) := dk_45 (dk_at dksX1_receiveReply_4 18 rfl rfl)
theorem dX1_receiveReply_115 : decode cX1_receiveReply 115 = .ok (.iconst 2, 1) := dk_5 (dk_at dksX1_receiveReply_4 19 rfl rfl)
theorem dX1_receiveReply_116 : decode cX1_receiveReply 116 = .ok (.iaload, 1) := dk_46 (dk_at dksX1_receiveReply_4 20 rfl rfl)
theorem dX1_receiveReply_117 : decode cX1_receiveReply 117 = .ok (.iastore, 1) := dk_79 (dk_at dksX1_receiveReply_4 21 rfl rfl)
theorem dX1_receiveReply_118 : decode cX1_receiveReply 118 = .ok (.invokestatic 280, 3) := dk_184 1 24 (dk_at dksX1_receiveReply_5 0 rfl rfl)
theorem dX1_receiveReply_121 : decode cX1_receiveReply 121 = .ok (.if_icmp .eq 6, 3) := dk_159 0 6 (dk_at dksX1_receiveReply_5 3 rfl rfl)
theorem dX1_receiveReply_124 : decode cX1_receiveReply 124 = .ok (.bipush (-2), 2) := dk_16 254 (dk_at dksX1_receiveReply_5 6 rfl rfl)
theorem dX1_receiveReply_126 : decode cX1_receiveReply 126 = .ok (.ireturn, 1) := dk_172 (dk_at dksX1_receiveReply_5 8 rfl rfl)
theorem dX1_receiveReply_127 : decode cX1_receiveReply 127 = .ok (.aload 5, 2) := dk_25 5 (dk_at dksX1_receiveReply_5 9 rfl rfl)
theorem dX1_receiveReply_129 : decode cX1_receiveReply 129 = .ok (.aconst_null, 1) := dk_1 (dk_at dksX1_receiveReply_5 11 rfl rfl)
theorem dX1_receiveReply_130 : decode cX1_receiveReply 130 = .ok (.putfield 146, 3) := dk_181 0 146 (dk_at dksX1_receiveReply_5 12 rfl rfl)
theorem dX1_receiveReply_133 : decode cX1_receiveReply 133 = .ok (.aload 5, 2) := dk_25 5 (dk_at dksX1_receiveReply_5 15 rfl rfl)
theorem dX1_receiveReply_135 : decode cX1_receiveReply 135 = .ok (.aload_n 2, 1) := dk_44 (dk_at dksX1_receiveReply_5 17 rfl rfl)
theorem dX1_receiveReply_136 : decode cX1_receiveReply 136 = .ok (.getfield 206, 3) := dk_180 0 206 (dk_at dksX1_receiveReply_5 18 rfl rfl)
theorem dX1_receiveReply_139 : decode cX1_receiveReply 139 = .ok (.putfield 218, 3) := dk_181 0 218 (dk_at dksX1_receiveReply_5 21 rfl rfl)
theorem dX1_receiveReply_142 : decode cX1_receiveReply 142 = .ok (.aload 5, 2) := dk_25 5 (dk_at dksX1_receiveReply_6 0 rfl rfl)
theorem dX1_receiveReply_144 : decode cX1_receiveReply 144 = .ok (.aload 5, 2) := dk_25 5 (dk_at dksX1_receiveReply_6 2 rfl rfl)
theorem dX1_receiveReply_146 : decode cX1_receiveReply 146 = .ok (.getfield 104, 3) := dk_180 0 104 (dk_at dksX1_receiveReply_6 4 rfl rfl)
theorem dX1_receiveReply_149 : decode cX1_receiveReply 149 = .ok (.putfield 358, 3) := dk_181 1 102 (dk_at dksX1_receiveReply_6 7 rfl rfl)
theorem dX1_receiveReply_152 : decode cX1_receiveReply 152 = .ok (.aload 5, 2) := dk_25 5 (dk_at dksX1_receiveReply_6 10 rfl rfl)
theorem dX1_receiveReply_154 : decode cX1_receiveReply 154 = .ok (.new 117, 3) := dk_187 0 117 (dk_at dksX1_receiveReply_6 12 rfl rfl)
theorem dX1_receiveReply_157 : decode cX1_receiveReply 157 = .ok (.dup, 1) := dk_89 (dk_at dksX1_receiveReply_6 15 rfl rfl)
theorem dX1_receiveReply_158 : decode cX1_receiveReply 158 = .ok (.aload_n 3, 1) := dk_45 (dk_at dksX1_receiveReply_6 16 rfl rfl)
theorem dX1_receiveReply_159 : decode cX1_receiveReply 159 = .ok (.iconst 1, 1) := dk_4 (dk_at dksX1_receiveReply_6 17 rfl rfl)
theorem dX1_receiveReply_160 : decode cX1_receiveReply 160 = .ok (.iaload, 1) := dk_46 (dk_at dksX1_receiveReply_6 18 rfl rfl)
theorem dX1_receiveReply_161 : decode cX1_receiveReply 161 = .ok (.aload_n 3, 1) := dk_45 (dk_at dksX1_receiveReply_6 19 rfl rfl)
theorem dX1_receiveReply_162 : decode cX1_receiveReply 162 = .ok (.iconst 0, 1) := dk_3 (dk_at dksX1_receiveReply_6 20 rfl rfl)
theorem dX1_receiveReply_163 : decode cX1_receiveReply 163 = .ok (.iaload, 1) := dk_46 (dk_at dksX1_receiveReply_6 21 rfl rfl)
theorem dX1_receiveReply_164 : decode cX1_receiveReply 164 = .ok (.aload_n 0, 1) := dk_42 (dk_at dksX1_receiveReply_6 22 rfl rfl)
theorem dX1_receiveReply_165 : decode cX1_receiveReply 165 = .ok (.getfield 58, 3) := dk_180 0 58 (dk_at dksX1_receiveReply_7 0 rfl rfl)
theorem dX1_receiveReply_168 : decode cX1_receiveReply 168 = .ok (.iconst 3, 1) := dk_6 (dk_at dksX1_receiveReply_7 3 rfl rfl)
theorem dX1_receiveReply_169 : decode cX1_receiveReply 169 = .ok (.newarray .int, 2) := dk_188_10 (dk_at dksX1_receiveReply_7 4 rfl rfl)
theorem dX1_receiveReply_171 : decode cX1_receiveReply 171 = .ok (.dup, 1) := dk_89 (dk_at dksX1_receiveReply_7 6 rfl rfl)
theorem dX1_receiveReply_172 : decode cX1_receiveReply 172 = .ok (.iconst 0, 1) := dk_3 (dk_at dksX1_receiveReply_7 7 rfl rfl)
theorem dX1_receiveReply_173 : decode cX1_receiveReply 173 = .ok (.iconst 5, 1) := dk_8 (dk_at dksX1_receiveReply_7 8 rfl rfl)
theorem dX1_receiveReply_174 : decode cX1_receiveReply 174 = .ok (.iastore, 1) := dk_79 (dk_at dksX1_receiveReply_7 9 rfl rfl)
theorem dX1_receiveReply_175 : decode cX1_receiveReply 175 = .ok (.dup, 1) := dk_89 (dk_at dksX1_receiveReply_7 10 rfl rfl)
theorem dX1_receiveReply_176 : decode cX1_receiveReply 176 = .ok (.iconst 1, 1) := dk_4 (dk_at dksX1_receiveReply_7 11 rfl rfl)
theorem dX1_receiveReply_177 : decode cX1_receiveReply 177 = .ok (.iload 7, 2) := dk_21 7 (dk_at dksX1_receiveReply_7 12 rfl rfl)
theorem dX1_receiveReply_179 : decode cX1_receiveReply 179 = .ok (.iastore, 1) := dk_79 (dk_at dksX1_receiveReply_7 14 rfl rfl)
theorem dX1_receiveReply_180 : decode cX1_receiveReply 180 = .ok (.dup, 1) := dk_89 (dk_at dksX1_receiveReply_7 15 rfl rfl)
theorem dX1_receiveReply_181 : decode cX1_receiveReply 181 = .ok (.iconst 2, 1) := dk_5 (dk_at dksX1_receiveReply_7 16 rfl rfl)
theorem dX1_receiveReply_182 : decode cX1_receiveReply 182 = .ok (.iconst 0, 1) := dk_3 (dk_at dksX1_receiveReply_7 17 rfl rfl)
theorem dX1_receiveReply_183 : decode cX1_receiveReply 183 = .ok (.iastore, 1) := dk_79 (dk_at dksX1_receiveReply_7 18 rfl rfl)
theorem dX1_receiveReply_184 : decode cX1_receiveReply 184 = .ok (.invokestatic 325, 3) := dk_184 1 69 (dk_at dksX1_receiveReply_7 19 rfl rfl)
theorem dX1_receiveReply_187 : decode cX1_receiveReply 187 = .ok (.iconst 3, 1) := dk_6 (dk_at dksX1_receiveReply_7 22 rfl rfl)
theorem dX1_receiveReply_188 : decode cX1_receiveReply 188 = .ok (.newarray .int, 2) := dk_188_10 (dk_at dksX1_receiveReply_8 0 rfl rfl)
theorem dX1_receiveReply_190 : decode cX1_receiveReply 190 = .ok (.dup, 1) := dk_89 (dk_at dksX1_receiveReply_8 2 rfl rfl)
theorem dX1_receiveReply_191 : decode cX1_receiveReply 191 = .ok (.iconst 0, 1) := dk_3 (dk_at dksX1_receiveReply_8 3 rfl rfl)
theorem dX1_receiveReply_192 : decode cX1_receiveReply 192 = .ok (.iconst 5, 1) := dk_8 (dk_at dksX1_receiveReply_8 4 rfl rfl)
theorem dX1_receiveReply_193 : decode cX1_receiveReply 193 = .ok (.iastore, 1) := dk_79 (dk_at dksX1_receiveReply_8 5 rfl rfl)
theorem dX1_receiveReply_194 : decode cX1_receiveReply 194 = .ok (.dup, 1) := dk_89 (dk_at dksX1_receiveReply_8 6 rfl rfl)
theorem dX1_receiveReply_195 : decode cX1_receiveReply 195 = .ok (.iconst 1, 1) := dk_4 (dk_at dksX1_receiveReply_8 7 rfl rfl)
theorem dX1_receiveReply_196 : decode cX1_receiveReply 196 = .ok (.iload 7, 2) := dk_21 7 (dk_at dksX1_receiveReply_8 8 rfl rfl)
theorem dX1_receiveReply_198 : decode cX1_receiveReply 198 = .ok (.iastore, 1) := dk_79 (dk_at dksX1_receiveReply_8 10 rfl rfl)
theorem dX1_receiveReply_199 : decode cX1_receiveReply 199 = .ok (.dup, 1) := dk_89 (dk_at dksX1_receiveReply_8 11 rfl rfl)
theorem dX1_receiveReply_200 : decode cX1_receiveReply 200 = .ok (.iconst 2, 1) := dk_5 (dk_at dksX1_receiveReply_8 12 rfl rfl)
theorem dX1_receiveReply_201 : decode cX1_receiveReply 201 = .ok (.iconst 1, 1) := dk_4 (dk_at dksX1_receiveReply_8 13 rfl rfl)
theorem dX1_receiveReply_202 : decode cX1_receiveReply 202 = .ok (.iastore, 1) := dk_79 (dk_at dksX1_receiveReply_8 14 rfl rfl)
theorem dX1_receiveReply_203 : decode cX1_receiveReply 203 = .ok (.invokestatic 325, 3) := dk_184 1 69 (dk_at dksX1_receiveReply_8 15 rfl rfl)
theorem dX1_receiveReply_206 : decode cX1_receiveReply 206 = .ok (.iconst 1, 1) := dk_4 (dk_at dksX1_receiveReply_8 18 rfl rfl)
theorem dX1_receiveReply_207 : decode cX1_receiveReply 207 = .ok (.invokespecial 345, 3) := dk_183 1 89 (dk_at dksX1_receiveReply_8 19 rfl rfl)
theorem dX1_receiveReply_210 : decode cX1_receiveReply 210 = .ok (.putfield 104, 3) := dk_181 0 104 (dk_at dksX1_receiveReply_9 0 rfl rfl)
theorem dX1_receiveReply_213 : decode cX1_receiveReply 213 = .ok (.aload 5, 2) := dk_25 5 (dk_at dksX1_receiveReply_9 3 rfl rfl)
theorem dX1_receiveReply_215 : decode cX1_receiveReply 215 = .ok (.getfield 244, 3) := dk_180 0 244 (dk_at dksX1_receiveReply_9 5 rfl rfl)
theorem dX1_receiveReply_218 : decode cX1_receiveReply 218 = .ok (.ifCond .ne 16, 3) := dk_154 0 16 (dk_at dksX1_receiveReply_9 8 rfl rfl)
theorem dX1_receiveReply_221 : decode cX1_receiveReply 221 = .ok (.aload_n 0, 1) := dk_42 (dk_at dksX1_receiveReply_9 11 rfl rfl)
theorem dX1_receiveReply_222 : decode cX1_receiveReply 222 = .ok (.iload_n 1, 1) := dk_27 (dk_at dksX1_receiveReply_9 12 rfl rfl)
theorem dX1_receiveReply_223 : decode cX1_receiveReply 223 = .ok (.iload 4, 2) := dk_21 4 (dk_at dksX1_receiveReply_9 13 rfl rfl)
theorem dX1_receiveReply_225 : decode cX1_receiveReply 225 = .ok (.iconst (-1), 1) := dk_2 (dk_at dksX1_receiveReply_9 15 rfl rfl)
theorem dX1_receiveReply_226 : decode cX1_receiveReply 226 = .ok (.iconst (-1), 1) := dk_2 (dk_at dksX1_receiveReply_9 16 rfl rfl)
theorem dX1_receiveReply_227 : decode cX1_receiveReply 227 = .ok (.iconst (-1), 1) := dk_2 (dk_at dksX1_receiveReply_9 17 rfl rfl)
theorem dX1_receiveReply_228 : decode cX1_receiveReply 228 = .ok (.invokevirtual 112, 3) := dk_182 0 112 (dk_at dksX1_receiveReply_9 18 rfl rfl)
theorem dX1_receiveReply_231 : decode cX1_receiveReply 231 = .ok (.goto 10, 3) := dk_167 0 10 (dk_at dksX1_receiveReply_9 21 rfl rfl)
theorem dX1_receiveReply_234 : decode cX1_receiveReply 234 = .ok (.aload_n 0, 1) := dk_42 (dk_at dksX1_receiveReply_10 0 rfl rfl)
theorem dX1_receiveReply_235 : decode cX1_receiveReply 235 = .ok (.iload_n 1, 1) := dk_27 (dk_at dksX1_receiveReply_10 1 rfl rfl)
theorem dX1_receiveReply_236 : decode cX1_receiveReply 236 = .ok (.iload 4, 2) := dk_21 4 (dk_at dksX1_receiveReply_10 2 rfl rfl)
theorem dX1_receiveReply_238 : decode cX1_receiveReply 238 = .ok (.invokevirtual 361, 3) := dk_182 1 105 (dk_at dksX1_receiveReply_10 4 rfl rfl)
theorem dX1_receiveReply_241 : decode cX1_receiveReply 241 = .ok (.iconst 3, 1) := dk_6 (dk_at dksX1_receiveReply_10 7 rfl rfl)
theorem dX1_receiveReply_242 : decode cX1_receiveReply 242 = .ok (.ireturn, 1) := dk_172 (dk_at dksX1_receiveReply_10 8 rfl rfl)
abbrev cX1_flightTo : ByteArray := prog_1_method_45_code
def yX1_flightTo : MethodName := ⟨RX1, "flightTo", "(II)I"⟩
def dkwX1_flightTo_2 : List UInt8 := [167, 255, 210, 2, 172]
abbrev dktX1_flightTo_2 : List UInt8 := dkwX1_flightTo_2 ++ []
def dkwX1_flightTo_1 : List UInt8 := [180, 0, 146, 58, 4, 25, 4, 198, 0, 14, 25, 4, 180, 0, 150, 28, 160, 0, 5, 29, 172, 132, 3, 1]
abbrev dktX1_flightTo_1 : List UInt8 := dkwX1_flightTo_1 ++ dktX1_flightTo_2
def dkwX1_flightTo_0 : List UInt8 := [3, 62, 29, 6, 162, 0, 47, 29, 27, 160, 0, 7, 1, 167, 0, 14, 42, 180, 0, 25, 27, 50, 29, 50]
abbrev dktX1_flightTo_0 : List UInt8 := dkwX1_flightTo_0 ++ dktX1_flightTo_1
theorem dksX1_flightTo_0 : cX1_flightTo.data.toList.drop 0 = dktX1_flightTo_0 := by decide +kernel
theorem dksX1_flightTo_1 : cX1_flightTo.data.toList.drop 24 = dktX1_flightTo_1 := dk_seg dksX1_flightTo_0 24 rfl rfl
theorem dksX1_flightTo_2 : cX1_flightTo.data.toList.drop 48 = dktX1_flightTo_2 := dk_seg dksX1_flightTo_1 24 rfl rfl
theorem dX1_flightTo_0 : decode cX1_flightTo 0 = .ok (.iconst 0, 1) := dk_3 (dk_at dksX1_flightTo_0 0 rfl rfl)
theorem dX1_flightTo_1 : decode cX1_flightTo 1 = .ok (.istore_n 3, 1) := dk_62 (dk_at dksX1_flightTo_0 1 rfl rfl)
theorem dX1_flightTo_2 : decode cX1_flightTo 2 = .ok (.iload_n 3, 1) := dk_29 (dk_at dksX1_flightTo_0 2 rfl rfl)
theorem dX1_flightTo_3 : decode cX1_flightTo 3 = .ok (.iconst 3, 1) := dk_6 (dk_at dksX1_flightTo_0 3 rfl rfl)
theorem dX1_flightTo_4 : decode cX1_flightTo 4 = .ok (.if_icmp .ge 47, 3) := dk_162 0 47 (dk_at dksX1_flightTo_0 4 rfl rfl)
theorem dX1_flightTo_7 : decode cX1_flightTo 7 = .ok (.iload_n 3, 1) := dk_29 (dk_at dksX1_flightTo_0 7 rfl rfl)
theorem dX1_flightTo_8 : decode cX1_flightTo 8 = .ok (.iload_n 1, 1) := dk_27 (dk_at dksX1_flightTo_0 8 rfl rfl)
theorem dX1_flightTo_9 : decode cX1_flightTo 9 = .ok (.if_icmp .ne 7, 3) := dk_160 0 7 (dk_at dksX1_flightTo_0 9 rfl rfl)
theorem dX1_flightTo_12 : decode cX1_flightTo 12 = .ok (.aconst_null, 1) := dk_1 (dk_at dksX1_flightTo_0 12 rfl rfl)
theorem dX1_flightTo_13 : decode cX1_flightTo 13 = .ok (.goto 14, 3) := dk_167 0 14 (dk_at dksX1_flightTo_0 13 rfl rfl)
theorem dX1_flightTo_16 : decode cX1_flightTo 16 = .ok (.aload_n 0, 1) := dk_42 (dk_at dksX1_flightTo_0 16 rfl rfl)
theorem dX1_flightTo_17 : decode cX1_flightTo 17 = .ok (.getfield 25, 3) := dk_180 0 25 (dk_at dksX1_flightTo_0 17 rfl rfl)
theorem dX1_flightTo_20 : decode cX1_flightTo 20 = .ok (.iload_n 1, 1) := dk_27 (dk_at dksX1_flightTo_0 20 rfl rfl)
theorem dX1_flightTo_21 : decode cX1_flightTo 21 = .ok (.aaload, 1) := dk_50 (dk_at dksX1_flightTo_0 21 rfl rfl)
theorem dX1_flightTo_22 : decode cX1_flightTo 22 = .ok (.iload_n 3, 1) := dk_29 (dk_at dksX1_flightTo_0 22 rfl rfl)
theorem dX1_flightTo_23 : decode cX1_flightTo 23 = .ok (.aaload, 1) := dk_50 (dk_at dksX1_flightTo_0 23 rfl rfl)
theorem dX1_flightTo_24 : decode cX1_flightTo 24 = .ok (.getfield 146, 3) := dk_180 0 146 (dk_at dksX1_flightTo_1 0 rfl rfl)
theorem dX1_flightTo_27 : decode cX1_flightTo 27 = .ok (.astore 4, 2) := dk_58 4 (dk_at dksX1_flightTo_1 3 rfl rfl)
theorem dX1_flightTo_29 : decode cX1_flightTo 29 = .ok (.aload 4, 2) := dk_25 4 (dk_at dksX1_flightTo_1 5 rfl rfl)
theorem dX1_flightTo_31 : decode cX1_flightTo 31 = .ok (.ifnull 14, 3) := dk_198 0 14 (dk_at dksX1_flightTo_1 7 rfl rfl)
theorem dX1_flightTo_34 : decode cX1_flightTo 34 = .ok (.aload 4, 2) := dk_25 4 (dk_at dksX1_flightTo_1 10 rfl rfl)
theorem dX1_flightTo_36 : decode cX1_flightTo 36 = .ok (.getfield 150, 3) := dk_180 0 150 (dk_at dksX1_flightTo_1 12 rfl rfl)
theorem dX1_flightTo_39 : decode cX1_flightTo 39 = .ok (.iload_n 2, 1) := dk_28 (dk_at dksX1_flightTo_1 15 rfl rfl)
theorem dX1_flightTo_40 : decode cX1_flightTo 40 = .ok (.if_icmp .ne 5, 3) := dk_160 0 5 (dk_at dksX1_flightTo_1 16 rfl rfl)
theorem dX1_flightTo_43 : decode cX1_flightTo 43 = .ok (.iload_n 3, 1) := dk_29 (dk_at dksX1_flightTo_1 19 rfl rfl)
theorem dX1_flightTo_44 : decode cX1_flightTo 44 = .ok (.ireturn, 1) := dk_172 (dk_at dksX1_flightTo_1 20 rfl rfl)
theorem dX1_flightTo_45 : decode cX1_flightTo 45 = .ok (.iinc 3 1, 3) := dk_132 3 1 (dk_at dksX1_flightTo_1 21 rfl rfl)
theorem dX1_flightTo_48 : decode cX1_flightTo 48 = .ok (.goto (-46), 3) := dk_167 255 210 (dk_at dksX1_flightTo_2 0 rfl rfl)
theorem dX1_flightTo_51 : decode cX1_flightTo 51 = .ok (.iconst (-1), 1) := dk_2 (dk_at dksX1_flightTo_2 3 rfl rfl)
theorem dX1_flightTo_52 : decode cX1_flightTo 52 = .ok (.ireturn, 1) := dk_172 (dk_at dksX1_flightTo_2 4 rfl rfl)
abbrev cX1_flush : ByteArray := prog_1_method_48_code
def yX1_flush : MethodName := ⟨RX1, "flush", "(II)V"⟩
def dkwX1_flush_2 : List UInt8 := [182, 0, 112, 167, 255, 214, 177]
abbrev dktX1_flush_2 : List UInt8 := dkwX1_flush_2 ++ []
def dkwX1_flush_1 : List UInt8 := [153, 0, 30, 45, 182, 1, 129, 58, 4, 42, 27, 28, 25, 4, 3, 46, 25, 4, 4, 46, 25, 4, 5, 46]
abbrev dktX1_flush_1 : List UInt8 := dkwX1_flush_1 ++ dktX1_flush_2
def dkwX1_flush_0 : List UInt8 := [42, 180, 0, 25, 27, 50, 28, 50, 78, 45, 180, 0, 244, 158, 0, 41, 42, 45, 180, 0, 104, 182, 0, 108]
abbrev dktX1_flush_0 : List UInt8 := dkwX1_flush_0 ++ dktX1_flush_1
theorem dksX1_flush_0 : cX1_flush.data.toList.drop 0 = dktX1_flush_0 := by decide +kernel
theorem dksX1_flush_1 : cX1_flush.data.toList.drop 24 = dktX1_flush_1 := dk_seg dksX1_flush_0 24 rfl rfl
theorem dksX1_flush_2 : cX1_flush.data.toList.drop 48 = dktX1_flush_2 := dk_seg dksX1_flush_1 24 rfl rfl
theorem dX1_flush_0 : decode cX1_flush 0 = .ok (.aload_n 0, 1) := dk_42 (dk_at dksX1_flush_0 0 rfl rfl)
theorem dX1_flush_1 : decode cX1_flush 1 = .ok (.getfield 25, 3) := dk_180 0 25 (dk_at dksX1_flush_0 1 rfl rfl)
theorem dX1_flush_4 : decode cX1_flush 4 = .ok (.iload_n 1, 1) := dk_27 (dk_at dksX1_flush_0 4 rfl rfl)
theorem dX1_flush_5 : decode cX1_flush 5 = .ok (.aaload, 1) := dk_50 (dk_at dksX1_flush_0 5 rfl rfl)
theorem dX1_flush_6 : decode cX1_flush 6 = .ok (.iload_n 2, 1) := dk_28 (dk_at dksX1_flush_0 6 rfl rfl)
theorem dX1_flush_7 : decode cX1_flush 7 = .ok (.aaload, 1) := dk_50 (dk_at dksX1_flush_0 7 rfl rfl)
theorem dX1_flush_8 : decode cX1_flush 8 = .ok (.astore_n 3, 1) := dk_78 (dk_at dksX1_flush_0 8 rfl rfl)
theorem dX1_flush_9 : decode cX1_flush 9 = .ok (.aload_n 3, 1) := dk_45 (dk_at dksX1_flush_0 9 rfl rfl)
theorem dX1_flush_10 : decode cX1_flush 10 = .ok (.getfield 244, 3) := dk_180 0 244 (dk_at dksX1_flush_0 10 rfl rfl)
theorem dX1_flush_13 : decode cX1_flush 13 = .ok (.ifCond .le 41, 3) := dk_158 0 41 (dk_at dksX1_flush_0 13 rfl rfl)
theorem dX1_flush_16 : decode cX1_flush 16 = .ok (.aload_n 0, 1) := dk_42 (dk_at dksX1_flush_0 16 rfl rfl)
theorem dX1_flush_17 : decode cX1_flush 17 = .ok (.aload_n 3, 1) := dk_45 (dk_at dksX1_flush_0 17 rfl rfl)
theorem dX1_flush_18 : decode cX1_flush 18 = .ok (.getfield 104, 3) := dk_180 0 104 (dk_at dksX1_flush_0 18 rfl rfl)
theorem dX1_flush_21 : decode cX1_flush 21 = .ok (.invokevirtual 108, 3) := dk_182 0 108 (dk_at dksX1_flush_0 21 rfl rfl)
theorem dX1_flush_24 : decode cX1_flush 24 = .ok (.ifCond .eq 30, 3) := dk_153 0 30 (dk_at dksX1_flush_1 0 rfl rfl)
theorem dX1_flush_27 : decode cX1_flush 27 = .ok (.aload_n 3, 1) := dk_45 (dk_at dksX1_flush_1 3 rfl rfl)
theorem dX1_flush_28 : decode cX1_flush 28 = .ok (.invokevirtual 385, 3) := dk_182 1 129 (dk_at dksX1_flush_1 4 rfl rfl)
theorem dX1_flush_31 : decode cX1_flush 31 = .ok (.astore 4, 2) := dk_58 4 (dk_at dksX1_flush_1 7 rfl rfl)
theorem dX1_flush_33 : decode cX1_flush 33 = .ok (.aload_n 0, 1) := dk_42 (dk_at dksX1_flush_1 9 rfl rfl)
theorem dX1_flush_34 : decode cX1_flush 34 = .ok (.iload_n 1, 1) := dk_27 (dk_at dksX1_flush_1 10 rfl rfl)
theorem dX1_flush_35 : decode cX1_flush 35 = .ok (.iload_n 2, 1) := dk_28 (dk_at dksX1_flush_1 11 rfl rfl)
theorem dX1_flush_36 : decode cX1_flush 36 = .ok (.aload 4, 2) := dk_25 4 (dk_at dksX1_flush_1 12 rfl rfl)
theorem dX1_flush_38 : decode cX1_flush 38 = .ok (.iconst 0, 1) := dk_3 (dk_at dksX1_flush_1 14 rfl rfl)
theorem dX1_flush_39 : decode cX1_flush 39 = .ok (.iaload, 1) := dk_46 (dk_at dksX1_flush_1 15 rfl rfl)
theorem dX1_flush_40 : decode cX1_flush 40 = .ok (.aload 4, 2) := dk_25 4 (dk_at dksX1_flush_1 16 rfl rfl)
theorem dX1_flush_42 : decode cX1_flush 42 = .ok (.iconst 1, 1) := dk_4 (dk_at dksX1_flush_1 18 rfl rfl)
theorem dX1_flush_43 : decode cX1_flush 43 = .ok (.iaload, 1) := dk_46 (dk_at dksX1_flush_1 19 rfl rfl)
theorem dX1_flush_44 : decode cX1_flush 44 = .ok (.aload 4, 2) := dk_25 4 (dk_at dksX1_flush_1 20 rfl rfl)
theorem dX1_flush_46 : decode cX1_flush 46 = .ok (.iconst 2, 1) := dk_5 (dk_at dksX1_flush_1 22 rfl rfl)
theorem dX1_flush_47 : decode cX1_flush 47 = .ok (.iaload, 1) := dk_46 (dk_at dksX1_flush_1 23 rfl rfl)
theorem dX1_flush_48 : decode cX1_flush 48 = .ok (.invokevirtual 112, 3) := dk_182 0 112 (dk_at dksX1_flush_2 0 rfl rfl)
theorem dX1_flush_51 : decode cX1_flush 51 = .ok (.goto (-42), 3) := dk_167 255 214 (dk_at dksX1_flush_2 3 rfl rfl)
theorem dX1_flush_54 : decode cX1_flush 54 = .ok (.return_, 1) := dk_177 (dk_at dksX1_flush_2 6 rfl rfl)
abbrev cX1_receiveCookie : ByteArray := prog_1_method_42_code
def yX1_receiveCookie : MethodName := ⟨RX1, "receiveCookie", "(ILBurrowline$Letter;)I"⟩
def dkwX1_receiveCookie_4 : List UInt8 := [45, 4, 46, 181, 0, 250, 25, 5, 42, 180, 0, 58, 181, 1, 111, 6, 172]
abbrev dktX1_receiveCookie_4 : List UInt8 := dkwX1_receiveCookie_4 ++ []
def dkwX1_receiveCookie_3 : List UInt8 := [79, 89, 4, 45, 3, 46, 79, 89, 5, 45, 4, 46, 79, 184, 1, 24, 159, 0, 6, 16, 254, 172, 25, 5]
abbrev dktX1_receiveCookie_3 : List UInt8 := dkwX1_receiveCookie_3 ++ dktX1_receiveCookie_4
def dkwX1_receiveCookie_2 : List UInt8 := [184, 1, 73, 79, 89, 5, 25, 5, 180, 0, 146, 180, 1, 108, 79, 184, 1, 69, 6, 188, 10, 89, 3, 6]
abbrev dktX1_receiveCookie_2 : List UInt8 := dkwX1_receiveCookie_2 ++ dktX1_receiveCookie_3
def dkwX1_receiveCookie_1 : List UInt8 := [180, 0, 25, 27, 50, 21, 4, 50, 58, 5, 45, 5, 46, 6, 188, 10, 89, 3, 6, 79, 89, 4, 21, 4]
abbrev dktX1_receiveCookie_1 : List UInt8 := dkwX1_receiveCookie_1 ++ dktX1_receiveCookie_2
def dkwX1_receiveCookie_0 : List UInt8 := [44, 180, 0, 191, 78, 42, 27, 45, 3, 46, 182, 1, 94, 54, 4, 21, 4, 2, 160, 0, 5, 2, 172, 42]
abbrev dktX1_receiveCookie_0 : List UInt8 := dkwX1_receiveCookie_0 ++ dktX1_receiveCookie_1
theorem dksX1_receiveCookie_0 : cX1_receiveCookie.data.toList.drop 0 = dktX1_receiveCookie_0 := by decide +kernel
theorem dksX1_receiveCookie_1 : cX1_receiveCookie.data.toList.drop 24 = dktX1_receiveCookie_1 := dk_seg dksX1_receiveCookie_0 24 rfl rfl
theorem dksX1_receiveCookie_2 : cX1_receiveCookie.data.toList.drop 48 = dktX1_receiveCookie_2 := dk_seg dksX1_receiveCookie_1 24 rfl rfl
theorem dksX1_receiveCookie_3 : cX1_receiveCookie.data.toList.drop 72 = dktX1_receiveCookie_3 := dk_seg dksX1_receiveCookie_2 24 rfl rfl
theorem dksX1_receiveCookie_4 : cX1_receiveCookie.data.toList.drop 96 = dktX1_receiveCookie_4 := dk_seg dksX1_receiveCookie_3 24 rfl rfl
theorem dX1_receiveCookie_0 : decode cX1_receiveCookie 0 = .ok (.aload_n 2, 1) := dk_44 (dk_at dksX1_receiveCookie_0 0 rfl rfl)
theorem dX1_receiveCookie_1 : decode cX1_receiveCookie 1 = .ok (.getfield 191, 3) := dk_180 0 191 (dk_at dksX1_receiveCookie_0 1 rfl rfl)
theorem dX1_receiveCookie_4 : decode cX1_receiveCookie 4 = .ok (.astore_n 3, 1) := dk_78 (dk_at dksX1_receiveCookie_0 4 rfl rfl)
theorem dX1_receiveCookie_5 : decode cX1_receiveCookie 5 = .ok (.aload_n 0, 1) := dk_42 (dk_at dksX1_receiveCookie_0 5 rfl rfl)
theorem dX1_receiveCookie_6 : decode cX1_receiveCookie 6 = .ok (.iload_n 1, 1) := dk_27 (dk_at dksX1_receiveCookie_0 6 rfl rfl)
theorem dX1_receiveCookie_7 : decode cX1_receiveCookie 7 = .ok (.aload_n 3, 1) := dk_45 (dk_at dksX1_receiveCookie_0 7 rfl rfl)
theorem dX1_receiveCookie_8 : decode cX1_receiveCookie 8 = .ok (.iconst 0, 1) := dk_3 (dk_at dksX1_receiveCookie_0 8 rfl rfl)
theorem dX1_receiveCookie_9 : decode cX1_receiveCookie 9 = .ok (.iaload, 1) := dk_46 (dk_at dksX1_receiveCookie_0 9 rfl rfl)
theorem dX1_receiveCookie_10 : decode cX1_receiveCookie 10 = .ok (.invokevirtual 350, 3) := dk_182 1 94 (dk_at dksX1_receiveCookie_0 10 rfl rfl)
theorem dX1_receiveCookie_13 : decode cX1_receiveCookie 13 = .ok (.istore 4, 2) := dk_54 4 (dk_at dksX1_receiveCookie_0 13 rfl rfl)
theorem dX1_receiveCookie_15 : decode cX1_receiveCookie 15 = .ok (.iload 4, 2) := dk_21 4 (dk_at dksX1_receiveCookie_0 15 rfl rfl)
theorem dX1_receiveCookie_17 : decode cX1_receiveCookie 17 = .ok (.iconst (-1), 1) := dk_2 (dk_at dksX1_receiveCookie_0 17 rfl rfl)
theorem dX1_receiveCookie_18 : decode cX1_receiveCookie 18 = .ok (.if_icmp .ne 5, 3) := dk_160 0 5 (dk_at dksX1_receiveCookie_0 18 rfl rfl)
theorem dX1_receiveCookie_21 : decode cX1_receiveCookie 21 = .ok (.iconst (-1), 1) := dk_2 (dk_at dksX1_receiveCookie_0 21 rfl rfl)
theorem dX1_receiveCookie_22 : decode cX1_receiveCookie 22 = .ok (.ireturn, 1) := dk_172 (dk_at dksX1_receiveCookie_0 22 rfl rfl)
theorem dX1_receiveCookie_23 : decode cX1_receiveCookie 23 = .ok (.aload_n 0, 1) := dk_42 (dk_at dksX1_receiveCookie_0 23 rfl rfl)
theorem dX1_receiveCookie_24 : decode cX1_receiveCookie 24 = .ok (.getfield 25, 3) := dk_180 0 25 (dk_at dksX1_receiveCookie_1 0 rfl rfl)
theorem dX1_receiveCookie_27 : decode cX1_receiveCookie 27 = .ok (.iload_n 1, 1) := dk_27 (dk_at dksX1_receiveCookie_1 3 rfl rfl)
theorem dX1_receiveCookie_28 : decode cX1_receiveCookie 28 = .ok (.aaload, 1) := dk_50 (dk_at dksX1_receiveCookie_1 4 rfl rfl)
theorem dX1_receiveCookie_29 : decode cX1_receiveCookie 29 = .ok (.iload 4, 2) := dk_21 4 (dk_at dksX1_receiveCookie_1 5 rfl rfl)
theorem dX1_receiveCookie_31 : decode cX1_receiveCookie 31 = .ok (.aaload, 1) := dk_50 (dk_at dksX1_receiveCookie_1 7 rfl rfl)
theorem dX1_receiveCookie_32 : decode cX1_receiveCookie 32 = .ok (.astore 5, 2) := dk_58 5 (dk_at dksX1_receiveCookie_1 8 rfl rfl)
theorem dX1_receiveCookie_34 : decode cX1_receiveCookie 34 = .ok (.aload_n 3, 1) := dk_45 (dk_at dksX1_receiveCookie_1 10 rfl rfl)
theorem dX1_receiveCookie_35 : decode cX1_receiveCookie 35 = .ok (.iconst 2, 1) := dk_5 (dk_at dksX1_receiveCookie_1 11 rfl rfl)
theorem dX1_receiveCookie_36 : decode cX1_receiveCookie 36 = .ok (.iaload, 1) := dk_46 (dk_at dksX1_receiveCookie_1 12 rfl rfl)
theorem dX1_receiveCookie_37 : decode cX1_receiveCookie 37 = .ok (.iconst 3, 1) := dk_6 (dk_at dksX1_receiveCookie_1 13 rfl rfl)
theorem dX1_receiveCookie_38 : decode cX1_receiveCookie 38 = .ok (.newarray .int, 2) := dk_188_10 (dk_at dksX1_receiveCookie_1 14 rfl rfl)
theorem dX1_receiveCookie_40 : decode cX1_receiveCookie 40 = .ok (.dup, 1) := dk_89 (dk_at dksX1_receiveCookie_1 16 rfl rfl)
theorem dX1_receiveCookie_41 : decode cX1_receiveCookie 41 = .ok (.iconst 0, 1) := dk_3 (dk_at dksX1_receiveCookie_1 17 rfl rfl)
theorem dX1_receiveCookie_42 : decode cX1_receiveCookie 42 = .ok (.iconst 3, 1) := dk_6 (dk_at dksX1_receiveCookie_1 18 rfl rfl)
theorem dX1_receiveCookie_43 : decode cX1_receiveCookie 43 = .ok (.iastore, 1) := dk_79 (dk_at dksX1_receiveCookie_1 19 rfl rfl)
theorem dX1_receiveCookie_44 : decode cX1_receiveCookie 44 = .ok (.dup, 1) := dk_89 (dk_at dksX1_receiveCookie_1 20 rfl rfl)
theorem dX1_receiveCookie_45 : decode cX1_receiveCookie 45 = .ok (.iconst 1, 1) := dk_4 (dk_at dksX1_receiveCookie_1 21 rfl rfl)
theorem dX1_receiveCookie_46 : decode cX1_receiveCookie 46 = .ok (.iload 4, 2) := dk_21 4 (dk_at dksX1_receiveCookie_1 22 rfl rfl)
theorem dX1_receiveCookie_48 : decode cX1_receiveCookie 48 = .ok (.invokestatic 329, 3) := dk_184 1 73 (dk_at dksX1_receiveCookie_2 0 rfl rfl)
theorem dX1_receiveCookie_51 : decode cX1_receiveCookie 51 = .ok (.iastore, 1) := dk_79 (dk_at dksX1_receiveCookie_2 3 rfl rfl)
theorem dX1_receiveCookie_52 : decode cX1_receiveCookie 52 = .ok (.dup, 1) := dk_89 (dk_at dksX1_receiveCookie_2 4 rfl rfl)
theorem dX1_receiveCookie_53 : decode cX1_receiveCookie 53 = .ok (.iconst 2, 1) := dk_5 (dk_at dksX1_receiveCookie_2 5 rfl rfl)
theorem dX1_receiveCookie_54 : decode cX1_receiveCookie 54 = .ok (.aload 5, 2) := dk_25 5 (dk_at dksX1_receiveCookie_2 6 rfl rfl)
theorem dX1_receiveCookie_56 : decode cX1_receiveCookie 56 = .ok (.getfield 146, 3) := dk_180 0 146 (dk_at dksX1_receiveCookie_2 8 rfl rfl)
theorem dX1_receiveCookie_59 : decode cX1_receiveCookie 59 = .ok (.getfield 364, 3) := dk_180 1 108 (dk_at dksX1_receiveCookie_2 11 rfl rfl)
theorem dX1_receiveCookie_62 : decode cX1_receiveCookie 62 = .ok (.iastore, 1) := dk_79 (dk_at dksX1_receiveCookie_2 14 rfl rfl)
theorem dX1_receiveCookie_63 : decode cX1_receiveCookie 63 = .ok (.invokestatic 325, 3) := dk_184 1 69 (dk_at dksX1_receiveCookie_2 15 rfl rfl)
theorem dX1_receiveCookie_66 : decode cX1_receiveCookie 66 = .ok (.iconst 3, 1) := dk_6 (dk_at dksX1_receiveCookie_2 18 rfl rfl)
theorem dX1_receiveCookie_67 : decode cX1_receiveCookie 67 = .ok (.newarray .int, 2) := dk_188_10 (dk_at dksX1_receiveCookie_2 19 rfl rfl)
theorem dX1_receiveCookie_69 : decode cX1_receiveCookie 69 = .ok (.dup, 1) := dk_89 (dk_at dksX1_receiveCookie_2 21 rfl rfl)
theorem dX1_receiveCookie_70 : decode cX1_receiveCookie 70 = .ok (.iconst 0, 1) := dk_3 (dk_at dksX1_receiveCookie_2 22 rfl rfl)
theorem dX1_receiveCookie_71 : decode cX1_receiveCookie 71 = .ok (.iconst 3, 1) := dk_6 (dk_at dksX1_receiveCookie_2 23 rfl rfl)
theorem dX1_receiveCookie_72 : decode cX1_receiveCookie 72 = .ok (.iastore, 1) := dk_79 (dk_at dksX1_receiveCookie_3 0 rfl rfl)
theorem dX1_receiveCookie_73 : decode cX1_receiveCookie 73 = .ok (.dup, 1) := dk_89 (dk_at dksX1_receiveCookie_3 1 rfl rfl)
theorem dX1_receiveCookie_74 : decode cX1_receiveCookie 74 = .ok (.iconst 1, 1) := dk_4 (dk_at dksX1_receiveCookie_3 2 rfl rfl)
theorem dX1_receiveCookie_75 : decode cX1_receiveCookie 75 = .ok (.aload_n 3, 1) := dk_45 (dk_at dksX1_receiveCookie_3 3 rfl rfl)
theorem dX1_receiveCookie_76 : decode cX1_receiveCookie 76 = .ok (.iconst 0, 1) := dk_3 (dk_at dksX1_receiveCookie_3 4 rfl rfl)
theorem dX1_receiveCookie_77 : decode cX1_receiveCookie 77 = .ok (.iaload, 1) := dk_46 (dk_at dksX1_receiveCookie_3 5 rfl rfl)
theorem dX1_receiveCookie_78 : decode cX1_receiveCookie 78 = .ok (.iastore, 1) := dk_79 (dk_at dksX1_receiveCookie_3 6 rfl rfl)
theorem dX1_receiveCookie_79 : decode cX1_receiveCookie 79 = .ok (.dup, 1) := dk_89 (dk_at dksX1_receiveCookie_3 7 rfl rfl)
theorem dX1_receiveCookie_80 : decode cX1_receiveCookie 80 = .ok (.iconst 2, 1) := dk_5 (dk_at dksX1_receiveCookie_3 8 rfl rfl)
theorem dX1_receiveCookie_81 : decode cX1_receiveCookie 81 = .ok (.aload_n 3, 1) := dk_45 (dk_at dksX1_receiveCookie_3 9 rfl rfl)
theorem dX1_receiveCookie_82 : decode cX1_receiveCookie 82 = .ok (.iconst 1, 1) := dk_4 (dk_at dksX1_receiveCookie_3 10 rfl rfl)
theorem dX1_receiveCookie_83 : decode cX1_receiveCookie 83 = .ok (.iaload, 1) := dk_46 (dk_at dksX1_receiveCookie_3 11 rfl rfl)
theorem dX1_receiveCookie_84 : decode cX1_receiveCookie 84 = .ok (.iastore, 1) := dk_79 (dk_at dksX1_receiveCookie_3 12 rfl rfl)
theorem dX1_receiveCookie_85 : decode cX1_receiveCookie 85 = .ok (.invokestatic 280, 3) := dk_184 1 24 (dk_at dksX1_receiveCookie_3 13 rfl rfl)
theorem dX1_receiveCookie_88 : decode cX1_receiveCookie 88 = .ok (.if_icmp .eq 6, 3) := dk_159 0 6 (dk_at dksX1_receiveCookie_3 16 rfl rfl)
theorem dX1_receiveCookie_91 : decode cX1_receiveCookie 91 = .ok (.bipush (-2), 2) := dk_16 254 (dk_at dksX1_receiveCookie_3 19 rfl rfl)
theorem dX1_receiveCookie_93 : decode cX1_receiveCookie 93 = .ok (.ireturn, 1) := dk_172 (dk_at dksX1_receiveCookie_3 21 rfl rfl)
theorem dX1_receiveCookie_94 : decode cX1_receiveCookie 94 = .ok (.aload 5, 2) := dk_25 5 (dk_at dksX1_receiveCookie_3 22 rfl rfl)
theorem dX1_receiveCookie_96 : decode cX1_receiveCookie 96 = .ok (.aload_n 3, 1) := dk_45 (dk_at dksX1_receiveCookie_4 0 rfl rfl)
theorem dX1_receiveCookie_97 : decode cX1_receiveCookie 97 = .ok (.iconst 1, 1) := dk_4 (dk_at dksX1_receiveCookie_4 1 rfl rfl)
theorem dX1_receiveCookie_98 : decode cX1_receiveCookie 98 = .ok (.iaload, 1) := dk_46 (dk_at dksX1_receiveCookie_4 2 rfl rfl)
theorem dX1_receiveCookie_99 : decode cX1_receiveCookie 99 = .ok (.putfield 250, 3) := dk_181 0 250 (dk_at dksX1_receiveCookie_4 3 rfl rfl)
theorem dX1_receiveCookie_102 : decode cX1_receiveCookie 102 = .ok (.aload 5, 2) := dk_25 5 (dk_at dksX1_receiveCookie_4 6 rfl rfl)
theorem dX1_receiveCookie_104 : decode cX1_receiveCookie 104 = .ok (.aload_n 0, 1) := dk_42 (dk_at dksX1_receiveCookie_4 8 rfl rfl)
theorem dX1_receiveCookie_105 : decode cX1_receiveCookie 105 = .ok (.getfield 58, 3) := dk_180 0 58 (dk_at dksX1_receiveCookie_4 9 rfl rfl)
theorem dX1_receiveCookie_108 : decode cX1_receiveCookie 108 = .ok (.putfield 367, 3) := dk_181 1 111 (dk_at dksX1_receiveCookie_4 12 rfl rfl)
theorem dX1_receiveCookie_111 : decode cX1_receiveCookie 111 = .ok (.iconst 3, 1) := dk_6 (dk_at dksX1_receiveCookie_4 15 rfl rfl)
theorem dX1_receiveCookie_112 : decode cX1_receiveCookie 112 = .ok (.ireturn, 1) := dk_172 (dk_at dksX1_receiveCookie_4 16 rfl rfl)
abbrev cX1_receiveData : ByteArray := prog_1_method_43_code
def yX1_receiveData : MethodName := ⟨RX1, "receiveData", "(ILBurrowline$Letter;)I"⟩
def dkwX1_receiveData_3 : List UInt8 := [182, 1, 114, 172, 132, 5, 1, 167, 255, 196, 132, 4, 1, 167, 255, 181, 2, 172]
abbrev dktX1_receiveData_3 : List UInt8 := dkwX1_receiveData_3 ++ []
def dkwX1_receiveData_2 : List UInt8 := [198, 0, 27, 25, 6, 180, 0, 228, 45, 3, 46, 160, 0, 16, 42, 27, 21, 4, 21, 5, 25, 6, 44]
abbrev dktX1_receiveData_2 : List UInt8 := dkwX1_receiveData_2 ++ dktX1_receiveData_3
def dkwX1_receiveData_1 : List UInt8 := [21, 5, 6, 162, 0, 54, 42, 180, 0, 25, 27, 50, 21, 4, 50, 21, 5, 182, 0, 225, 58, 6, 25, 6]
abbrev dktX1_receiveData_1 : List UInt8 := dkwX1_receiveData_1 ++ dktX1_receiveData_2
def dkwX1_receiveData_0 : List UInt8 := [44, 180, 0, 191, 78, 3, 54, 4, 21, 4, 6, 162, 0, 75, 3, 54, 5, 21, 4, 27, 159, 0, 60]
abbrev dktX1_receiveData_0 : List UInt8 := dkwX1_receiveData_0 ++ dktX1_receiveData_1
theorem dksX1_receiveData_0 : cX1_receiveData.data.toList.drop 0 = dktX1_receiveData_0 := by decide +kernel
theorem dksX1_receiveData_1 : cX1_receiveData.data.toList.drop 23 = dktX1_receiveData_1 := dk_seg dksX1_receiveData_0 23 rfl rfl
theorem dksX1_receiveData_2 : cX1_receiveData.data.toList.drop 47 = dktX1_receiveData_2 := dk_seg dksX1_receiveData_1 24 rfl rfl
theorem dksX1_receiveData_3 : cX1_receiveData.data.toList.drop 70 = dktX1_receiveData_3 := dk_seg dksX1_receiveData_2 23 rfl rfl
theorem dX1_receiveData_0 : decode cX1_receiveData 0 = .ok (.aload_n 2, 1) := dk_44 (dk_at dksX1_receiveData_0 0 rfl rfl)
theorem dX1_receiveData_1 : decode cX1_receiveData 1 = .ok (.getfield 191, 3) := dk_180 0 191 (dk_at dksX1_receiveData_0 1 rfl rfl)
theorem dX1_receiveData_4 : decode cX1_receiveData 4 = .ok (.astore_n 3, 1) := dk_78 (dk_at dksX1_receiveData_0 4 rfl rfl)
theorem dX1_receiveData_5 : decode cX1_receiveData 5 = .ok (.iconst 0, 1) := dk_3 (dk_at dksX1_receiveData_0 5 rfl rfl)
theorem dX1_receiveData_6 : decode cX1_receiveData 6 = .ok (.istore 4, 2) := dk_54 4 (dk_at dksX1_receiveData_0 6 rfl rfl)
theorem dX1_receiveData_8 : decode cX1_receiveData 8 = .ok (.iload 4, 2) := dk_21 4 (dk_at dksX1_receiveData_0 8 rfl rfl)
theorem dX1_receiveData_10 : decode cX1_receiveData 10 = .ok (.iconst 3, 1) := dk_6 (dk_at dksX1_receiveData_0 10 rfl rfl)
theorem dX1_receiveData_11 : decode cX1_receiveData 11 = .ok (.if_icmp .ge 75, 3) := dk_162 0 75 (dk_at dksX1_receiveData_0 11 rfl rfl)
theorem dX1_receiveData_14 : decode cX1_receiveData 14 = .ok (.iconst 0, 1) := dk_3 (dk_at dksX1_receiveData_0 14 rfl rfl)
theorem dX1_receiveData_15 : decode cX1_receiveData 15 = .ok (.istore 5, 2) := dk_54 5 (dk_at dksX1_receiveData_0 15 rfl rfl)
theorem dX1_receiveData_17 : decode cX1_receiveData 17 = .ok (.iload 4, 2) := dk_21 4 (dk_at dksX1_receiveData_0 17 rfl rfl)
theorem dX1_receiveData_19 : decode cX1_receiveData 19 = .ok (.iload_n 1, 1) := dk_27 (dk_at dksX1_receiveData_0 19 rfl rfl)
theorem dX1_receiveData_20 : decode cX1_receiveData 20 = .ok (.if_icmp .eq 60, 3) := dk_159 0 60 (dk_at dksX1_receiveData_0 20 rfl rfl)
theorem dX1_receiveData_23 : decode cX1_receiveData 23 = .ok (.iload 5, 2) := dk_21 5 (dk_at dksX1_receiveData_1 0 rfl rfl)
theorem dX1_receiveData_25 : decode cX1_receiveData 25 = .ok (.iconst 3, 1) := dk_6 (dk_at dksX1_receiveData_1 2 rfl rfl)
theorem dX1_receiveData_26 : decode cX1_receiveData 26 = .ok (.if_icmp .ge 54, 3) := dk_162 0 54 (dk_at dksX1_receiveData_1 3 rfl rfl)
theorem dX1_receiveData_29 : decode cX1_receiveData 29 = .ok (.aload_n 0, 1) := dk_42 (dk_at dksX1_receiveData_1 6 rfl rfl)
theorem dX1_receiveData_30 : decode cX1_receiveData 30 = .ok (.getfield 25, 3) := dk_180 0 25 (dk_at dksX1_receiveData_1 7 rfl rfl)
theorem dX1_receiveData_33 : decode cX1_receiveData 33 = .ok (.iload_n 1, 1) := dk_27 (dk_at dksX1_receiveData_1 10 rfl rfl)
theorem dX1_receiveData_34 : decode cX1_receiveData 34 = .ok (.aaload, 1) := dk_50 (dk_at dksX1_receiveData_1 11 rfl rfl)
theorem dX1_receiveData_35 : decode cX1_receiveData 35 = .ok (.iload 4, 2) := dk_21 4 (dk_at dksX1_receiveData_1 12 rfl rfl)
theorem dX1_receiveData_37 : decode cX1_receiveData 37 = .ok (.aaload, 1) := dk_50 (dk_at dksX1_receiveData_1 14 rfl rfl)
theorem dX1_receiveData_38 : decode cX1_receiveData 38 = .ok (.iload 5, 2) := dk_21 5 (dk_at dksX1_receiveData_1 15 rfl rfl)
theorem dX1_receiveData_40 : decode cX1_receiveData 40 = .ok (.invokevirtual 225, 3) := dk_182 0 225 (dk_at dksX1_receiveData_1 17 rfl rfl)
theorem dX1_receiveData_43 : decode cX1_receiveData 43 = .ok (.astore 6, 2) := dk_58 6 (dk_at dksX1_receiveData_1 20 rfl rfl)
theorem dX1_receiveData_45 : decode cX1_receiveData 45 = .ok (.aload 6, 2) := dk_25 6 (dk_at dksX1_receiveData_1 22 rfl rfl)
theorem dX1_receiveData_47 : decode cX1_receiveData 47 = .ok (.ifnull 27, 3) := dk_198 0 27 (dk_at dksX1_receiveData_2 0 rfl rfl)
theorem dX1_receiveData_50 : decode cX1_receiveData 50 = .ok (.aload 6, 2) := dk_25 6 (dk_at dksX1_receiveData_2 3 rfl rfl)
theorem dX1_receiveData_52 : decode cX1_receiveData 52 = .ok (.getfield 228, 3) := dk_180 0 228 (dk_at dksX1_receiveData_2 5 rfl rfl)
theorem dX1_receiveData_55 : decode cX1_receiveData 55 = .ok (.aload_n 3, 1) := dk_45 (dk_at dksX1_receiveData_2 8 rfl rfl)
theorem dX1_receiveData_56 : decode cX1_receiveData 56 = .ok (.iconst 0, 1) := dk_3 (dk_at dksX1_receiveData_2 9 rfl rfl)
theorem dX1_receiveData_57 : decode cX1_receiveData 57 = .ok (.iaload, 1) := dk_46 (dk_at dksX1_receiveData_2 10 rfl rfl)
theorem dX1_receiveData_58 : decode cX1_receiveData 58 = .ok (.if_icmp .ne 16, 3) := dk_160 0 16 (dk_at dksX1_receiveData_2 11 rfl rfl)
theorem dX1_receiveData_61 : decode cX1_receiveData 61 = .ok (.aload_n 0, 1) := dk_42 (dk_at dksX1_receiveData_2 14 rfl rfl)
theorem dX1_receiveData_62 : decode cX1_receiveData 62 = .ok (.iload_n 1, 1) := dk_27 (dk_at dksX1_receiveData_2 15 rfl rfl)
theorem dX1_receiveData_63 : decode cX1_receiveData 63 = .ok (.iload 4, 2) := dk_21 4 (dk_at dksX1_receiveData_2 16 rfl rfl)
theorem dX1_receiveData_65 : decode cX1_receiveData 65 = .ok (.iload 5, 2) := dk_21 5 (dk_at dksX1_receiveData_2 18 rfl rfl)
theorem dX1_receiveData_67 : decode cX1_receiveData 67 = .ok (.aload 6, 2) := dk_25 6 (dk_at dksX1_receiveData_2 20 rfl rfl)
theorem dX1_receiveData_69 : decode cX1_receiveData 69 = .ok (.aload_n 2, 1) := dk_44 (dk_at dksX1_receiveData_2 22 rfl rfl)
theorem dX1_receiveData_70 : decode cX1_receiveData 70 = .ok (.invokevirtual 370, 3) := dk_182 1 114 (dk_at dksX1_receiveData_3 0 rfl rfl)
theorem dX1_receiveData_73 : decode cX1_receiveData 73 = .ok (.ireturn, 1) := dk_172 (dk_at dksX1_receiveData_3 3 rfl rfl)
theorem dX1_receiveData_74 : decode cX1_receiveData 74 = .ok (.iinc 5 1, 3) := dk_132 5 1 (dk_at dksX1_receiveData_3 4 rfl rfl)
theorem dX1_receiveData_77 : decode cX1_receiveData 77 = .ok (.goto (-60), 3) := dk_167 255 196 (dk_at dksX1_receiveData_3 7 rfl rfl)
theorem dX1_receiveData_80 : decode cX1_receiveData 80 = .ok (.iinc 4 1, 3) := dk_132 4 1 (dk_at dksX1_receiveData_3 10 rfl rfl)
theorem dX1_receiveData_83 : decode cX1_receiveData 83 = .ok (.goto (-75), 3) := dk_167 255 181 (dk_at dksX1_receiveData_3 13 rfl rfl)
theorem dX1_receiveData_86 : decode cX1_receiveData 86 = .ok (.iconst (-1), 1) := dk_2 (dk_at dksX1_receiveData_3 16 rfl rfl)
theorem dX1_receiveData_87 : decode cX1_receiveData 87 = .ok (.ireturn, 1) := dk_172 (dk_at dksX1_receiveData_3 17 rfl rfl)
abbrev cX1_receiveBy : ByteArray := prog_1_method_44_code
def yX1_receiveBy : MethodName := ⟨RX1, "receiveBy", "(IIILBurrowline$Session;LBurrowline$Letter;)I"⟩
def dkwX1_receiveBy_9 : List UInt8 := [46, 79, 89, 5, 25, 6, 6, 46, 79, 89, 6, 25, 6, 7, 46, 79, 182, 0, 42, 87, 4, 172]
abbrev dktX1_receiveBy_9 : List UInt8 := dkwX1_receiveBy_9 ++ []
def dkwX1_receiveBy_8 : List UInt8 := [172, 42, 180, 0, 35, 27, 182, 0, 178, 192, 0, 28, 7, 188, 10, 89, 3, 28, 79, 89, 4, 25, 6, 5]
abbrev dktX1_receiveBy_8 : List UInt8 := dkwX1_receiveBy_8 ++ dktX1_receiveBy_9
def dkwX1_receiveBy_7 : List UInt8 := [160, 0, 5, 5, 172, 42, 180, 0, 19, 27, 50, 25, 6, 5, 46, 182, 0, 101, 28, 159, 0, 6, 16, 251]
abbrev dktX1_receiveBy_7 : List UInt8 := dkwX1_receiveBy_7 ++ dktX1_receiveBy_8
def dkwX1_receiveBy_6 : List UInt8 := [25, 7, 25, 4, 181, 0, 104, 25, 7, 1, 181, 1, 92, 42, 27, 28, 182, 1, 105, 25, 6, 5, 46, 2]
abbrev dktX1_receiveBy_6 : List UInt8 := dkwX1_receiveBy_6 ++ dktX1_receiveBy_7
def dkwX1_receiveBy_5 : List UInt8 := [25, 5, 180, 0, 206, 181, 0, 218, 29, 5, 160, 0, 32, 25, 7, 25, 7, 180, 0, 104, 181, 1, 102]
abbrev dktX1_receiveBy_5 : List UInt8 := dkwX1_receiveBy_5 ++ dktX1_receiveBy_6
def dkwX1_receiveBy_4 : List UInt8 := [16, 253, 172, 25, 4, 25, 6, 4, 46, 182, 1, 121, 42, 180, 0, 25, 27, 50, 28, 50, 58, 7, 25, 7]
abbrev dktX1_receiveBy_4 : List UInt8 := dkwX1_receiveBy_4 ++ dktX1_receiveBy_5
def dkwX1_receiveBy_3 : List UInt8 := [46, 79, 184, 1, 24, 159, 0, 6, 16, 254, 172, 25, 4, 25, 6, 4, 46, 182, 1, 118, 154, 0, 6]
abbrev dktX1_receiveBy_3 : List UInt8 := dkwX1_receiveBy_3 ++ dktX1_receiveBy_4
def dkwX1_receiveBy_2 : List UInt8 := [25, 6, 4, 46, 79, 89, 6, 25, 6, 5, 46, 79, 89, 7, 25, 6, 6, 46, 79, 89, 8, 25, 6, 7]
abbrev dktX1_receiveBy_2 : List UInt8 := dkwX1_receiveBy_2 ++ dktX1_receiveBy_3
def dkwX1_receiveBy_1 : List UInt8 := [46, 25, 4, 180, 0, 241, 16, 6, 188, 10, 89, 3, 7, 79, 89, 4, 25, 6, 3, 46, 79, 89, 5]
abbrev dktX1_receiveBy_1 : List UInt8 := dkwX1_receiveBy_1 ++ dktX1_receiveBy_2
def dkwX1_receiveBy_0 : List UInt8 := [25, 5, 180, 0, 191, 58, 6, 42, 25, 4, 182, 0, 122, 16, 30, 161, 0, 6, 16, 252, 172, 25, 6, 8]
abbrev dktX1_receiveBy_0 : List UInt8 := dkwX1_receiveBy_0 ++ dktX1_receiveBy_1
theorem dksX1_receiveBy_0 : cX1_receiveBy.data.toList.drop 0 = dktX1_receiveBy_0 := by decide +kernel
theorem dksX1_receiveBy_1 : cX1_receiveBy.data.toList.drop 24 = dktX1_receiveBy_1 := dk_seg dksX1_receiveBy_0 24 rfl rfl
theorem dksX1_receiveBy_2 : cX1_receiveBy.data.toList.drop 47 = dktX1_receiveBy_2 := dk_seg dksX1_receiveBy_1 23 rfl rfl
theorem dksX1_receiveBy_3 : cX1_receiveBy.data.toList.drop 71 = dktX1_receiveBy_3 := dk_seg dksX1_receiveBy_2 24 rfl rfl
theorem dksX1_receiveBy_4 : cX1_receiveBy.data.toList.drop 94 = dktX1_receiveBy_4 := dk_seg dksX1_receiveBy_3 23 rfl rfl
theorem dksX1_receiveBy_5 : cX1_receiveBy.data.toList.drop 118 = dktX1_receiveBy_5 := dk_seg dksX1_receiveBy_4 24 rfl rfl
theorem dksX1_receiveBy_6 : cX1_receiveBy.data.toList.drop 141 = dktX1_receiveBy_6 := dk_seg dksX1_receiveBy_5 23 rfl rfl
theorem dksX1_receiveBy_7 : cX1_receiveBy.data.toList.drop 165 = dktX1_receiveBy_7 := dk_seg dksX1_receiveBy_6 24 rfl rfl
theorem dksX1_receiveBy_8 : cX1_receiveBy.data.toList.drop 189 = dktX1_receiveBy_8 := dk_seg dksX1_receiveBy_7 24 rfl rfl
theorem dksX1_receiveBy_9 : cX1_receiveBy.data.toList.drop 213 = dktX1_receiveBy_9 := dk_seg dksX1_receiveBy_8 24 rfl rfl
theorem dX1_receiveBy_0 : decode cX1_receiveBy 0 = .ok (.aload 5, 2) := dk_25 5 (dk_at dksX1_receiveBy_0 0 rfl rfl)
theorem dX1_receiveBy_2 : decode cX1_receiveBy 2 = .ok (.getfield 191, 3) := dk_180 0 191 (dk_at dksX1_receiveBy_0 2 rfl rfl)
theorem dX1_receiveBy_5 : decode cX1_receiveBy 5 = .ok (.astore 6, 2) := dk_58 6 (dk_at dksX1_receiveBy_0 5 rfl rfl)
theorem dX1_receiveBy_7 : decode cX1_receiveBy 7 = .ok (.aload_n 0, 1) := dk_42 (dk_at dksX1_receiveBy_0 7 rfl rfl)
theorem dX1_receiveBy_8 : decode cX1_receiveBy 8 = .ok (.aload 4, 2) := dk_25 4 (dk_at dksX1_receiveBy_0 8 rfl rfl)
theorem dX1_receiveBy_10 : decode cX1_receiveBy 10 = .ok (.invokevirtual 122, 3) := dk_182 0 122 (dk_at dksX1_receiveBy_0 10 rfl rfl)
theorem dX1_receiveBy_13 : decode cX1_receiveBy 13 = .ok (.bipush 30, 2) := dk_16 30 (dk_at dksX1_receiveBy_0 13 rfl rfl)
theorem dX1_receiveBy_15 : decode cX1_receiveBy 15 = .ok (.if_icmp .lt 6, 3) := dk_161 0 6 (dk_at dksX1_receiveBy_0 15 rfl rfl)
theorem dX1_receiveBy_18 : decode cX1_receiveBy 18 = .ok (.bipush (-4), 2) := dk_16 252 (dk_at dksX1_receiveBy_0 18 rfl rfl)
theorem dX1_receiveBy_20 : decode cX1_receiveBy 20 = .ok (.ireturn, 1) := dk_172 (dk_at dksX1_receiveBy_0 20 rfl rfl)
theorem dX1_receiveBy_21 : decode cX1_receiveBy 21 = .ok (.aload 6, 2) := dk_25 6 (dk_at dksX1_receiveBy_0 21 rfl rfl)
theorem dX1_receiveBy_23 : decode cX1_receiveBy 23 = .ok (.iconst 5, 1) := dk_8 (dk_at dksX1_receiveBy_0 23 rfl rfl)
theorem dX1_receiveBy_24 : decode cX1_receiveBy 24 = .ok (.iaload, 1) := dk_46 (dk_at dksX1_receiveBy_1 0 rfl rfl)
theorem dX1_receiveBy_25 : decode cX1_receiveBy 25 = .ok (.aload 4, 2) := dk_25 4 (dk_at dksX1_receiveBy_1 1 rfl rfl)
theorem dX1_receiveBy_27 : decode cX1_receiveBy 27 = .ok (.getfield 241, 3) := dk_180 0 241 (dk_at dksX1_receiveBy_1 3 rfl rfl)
theorem dX1_receiveBy_30 : decode cX1_receiveBy 30 = .ok (.bipush 6, 2) := dk_16 6 (dk_at dksX1_receiveBy_1 6 rfl rfl)
theorem dX1_receiveBy_32 : decode cX1_receiveBy 32 = .ok (.newarray .int, 2) := dk_188_10 (dk_at dksX1_receiveBy_1 8 rfl rfl)
theorem dX1_receiveBy_34 : decode cX1_receiveBy 34 = .ok (.dup, 1) := dk_89 (dk_at dksX1_receiveBy_1 10 rfl rfl)
theorem dX1_receiveBy_35 : decode cX1_receiveBy 35 = .ok (.iconst 0, 1) := dk_3 (dk_at dksX1_receiveBy_1 11 rfl rfl)
theorem dX1_receiveBy_36 : decode cX1_receiveBy 36 = .ok (.iconst 4, 1) := dk_7 (dk_at dksX1_receiveBy_1 12 rfl rfl)
theorem dX1_receiveBy_37 : decode cX1_receiveBy 37 = .ok (.iastore, 1) := dk_79 (dk_at dksX1_receiveBy_1 13 rfl rfl)
theorem dX1_receiveBy_38 : decode cX1_receiveBy 38 = .ok (.dup, 1) := dk_89 (dk_at dksX1_receiveBy_1 14 rfl rfl)
theorem dX1_receiveBy_39 : decode cX1_receiveBy 39 = .ok (.iconst 1, 1) := dk_4 (dk_at dksX1_receiveBy_1 15 rfl rfl)
theorem dX1_receiveBy_40 : decode cX1_receiveBy 40 = .ok (.aload 6, 2) := dk_25 6 (dk_at dksX1_receiveBy_1 16 rfl rfl)
theorem dX1_receiveBy_42 : decode cX1_receiveBy 42 = .ok (.iconst 0, 1) := dk_3 (dk_at dksX1_receiveBy_1 18 rfl rfl)
theorem dX1_receiveBy_43 : decode cX1_receiveBy 43 = .ok (.iaload, 1) := dk_46 (dk_at dksX1_receiveBy_1 19 rfl rfl)
theorem dX1_receiveBy_44 : decode cX1_receiveBy 44 = .ok (.iastore, 1) := dk_79 (dk_at dksX1_receiveBy_1 20 rfl rfl)
theorem dX1_receiveBy_45 : decode cX1_receiveBy 45 = .ok (.dup, 1) := dk_89 (dk_at dksX1_receiveBy_1 21 rfl rfl)
theorem dX1_receiveBy_46 : decode cX1_receiveBy 46 = .ok (.iconst 2, 1) := dk_5 (dk_at dksX1_receiveBy_1 22 rfl rfl)
theorem dX1_receiveBy_47 : decode cX1_receiveBy 47 = .ok (.aload 6, 2) := dk_25 6 (dk_at dksX1_receiveBy_2 0 rfl rfl)
theorem dX1_receiveBy_49 : decode cX1_receiveBy 49 = .ok (.iconst 1, 1) := dk_4 (dk_at dksX1_receiveBy_2 2 rfl rfl)
theorem dX1_receiveBy_50 : decode cX1_receiveBy 50 = .ok (.iaload, 1) := dk_46 (dk_at dksX1_receiveBy_2 3 rfl rfl)
theorem dX1_receiveBy_51 : decode cX1_receiveBy 51 = .ok (.iastore, 1) := dk_79 (dk_at dksX1_receiveBy_2 4 rfl rfl)
theorem dX1_receiveBy_52 : decode cX1_receiveBy 52 = .ok (.dup, 1) := dk_89 (dk_at dksX1_receiveBy_2 5 rfl rfl)
theorem dX1_receiveBy_53 : decode cX1_receiveBy 53 = .ok (.iconst 3, 1) := dk_6 (dk_at dksX1_receiveBy_2 6 rfl rfl)
theorem dX1_receiveBy_54 : decode cX1_receiveBy 54 = .ok (.aload 6, 2) := dk_25 6 (dk_at dksX1_receiveBy_2 7 rfl rfl)
theorem dX1_receiveBy_56 : decode cX1_receiveBy 56 = .ok (.iconst 2, 1) := dk_5 (dk_at dksX1_receiveBy_2 9 rfl rfl)
theorem dX1_receiveBy_57 : decode cX1_receiveBy 57 = .ok (.iaload, 1) := dk_46 (dk_at dksX1_receiveBy_2 10 rfl rfl)
theorem dX1_receiveBy_58 : decode cX1_receiveBy 58 = .ok (.iastore, 1) := dk_79 (dk_at dksX1_receiveBy_2 11 rfl rfl)
theorem dX1_receiveBy_59 : decode cX1_receiveBy 59 = .ok (.dup, 1) := dk_89 (dk_at dksX1_receiveBy_2 12 rfl rfl)
theorem dX1_receiveBy_60 : decode cX1_receiveBy 60 = .ok (.iconst 4, 1) := dk_7 (dk_at dksX1_receiveBy_2 13 rfl rfl)
theorem dX1_receiveBy_61 : decode cX1_receiveBy 61 = .ok (.aload 6, 2) := dk_25 6 (dk_at dksX1_receiveBy_2 14 rfl rfl)
theorem dX1_receiveBy_63 : decode cX1_receiveBy 63 = .ok (.iconst 3, 1) := dk_6 (dk_at dksX1_receiveBy_2 16 rfl rfl)
theorem dX1_receiveBy_64 : decode cX1_receiveBy 64 = .ok (.iaload, 1) := dk_46 (dk_at dksX1_receiveBy_2 17 rfl rfl)
theorem dX1_receiveBy_65 : decode cX1_receiveBy 65 = .ok (.iastore, 1) := dk_79 (dk_at dksX1_receiveBy_2 18 rfl rfl)
theorem dX1_receiveBy_66 : decode cX1_receiveBy 66 = .ok (.dup, 1) := dk_89 (dk_at dksX1_receiveBy_2 19 rfl rfl)
theorem dX1_receiveBy_67 : decode cX1_receiveBy 67 = .ok (.iconst 5, 1) := dk_8 (dk_at dksX1_receiveBy_2 20 rfl rfl)
theorem dX1_receiveBy_68 : decode cX1_receiveBy 68 = .ok (.aload 6, 2) := dk_25 6 (dk_at dksX1_receiveBy_2 21 rfl rfl)
theorem dX1_receiveBy_70 : decode cX1_receiveBy 70 = .ok (.iconst 4, 1) := dk_7 (dk_at dksX1_receiveBy_2 23 rfl rfl)
theorem dX1_receiveBy_71 : decode cX1_receiveBy 71 = .ok (.iaload, 1) := dk_46 (dk_at dksX1_receiveBy_3 0 rfl rfl)
theorem dX1_receiveBy_72 : decode cX1_receiveBy 72 = .ok (.iastore, 1) := dk_79 (dk_at dksX1_receiveBy_3 1 rfl rfl)
theorem dX1_receiveBy_73 : decode cX1_receiveBy 73 = .ok (.invokestatic 280, 3) := dk_184 1 24 (dk_at dksX1_receiveBy_3 2 rfl rfl)
theorem dX1_receiveBy_76 : decode cX1_receiveBy 76 = .ok (.if_icmp .eq 6, 3) := dk_159 0 6 (dk_at dksX1_receiveBy_3 5 rfl rfl)
theorem dX1_receiveBy_79 : decode cX1_receiveBy 79 = .ok (.bipush (-2), 2) := dk_16 254 (dk_at dksX1_receiveBy_3 8 rfl rfl)
theorem dX1_receiveBy_81 : decode cX1_receiveBy 81 = .ok (.ireturn, 1) := dk_172 (dk_at dksX1_receiveBy_3 10 rfl rfl)
theorem dX1_receiveBy_82 : decode cX1_receiveBy 82 = .ok (.aload 4, 2) := dk_25 4 (dk_at dksX1_receiveBy_3 11 rfl rfl)
theorem dX1_receiveBy_84 : decode cX1_receiveBy 84 = .ok (.aload 6, 2) := dk_25 6 (dk_at dksX1_receiveBy_3 13 rfl rfl)
theorem dX1_receiveBy_86 : decode cX1_receiveBy 86 = .ok (.iconst 1, 1) := dk_4 (dk_at dksX1_receiveBy_3 15 rfl rfl)
theorem dX1_receiveBy_87 : decode cX1_receiveBy 87 = .ok (.iaload, 1) := dk_46 (dk_at dksX1_receiveBy_3 16 rfl rfl)
theorem dX1_receiveBy_88 : decode cX1_receiveBy 88 = .ok (.invokevirtual 374, 3) := dk_182 1 118 (dk_at dksX1_receiveBy_3 17 rfl rfl)
theorem dX1_receiveBy_91 : decode cX1_receiveBy 91 = .ok (.ifCond .ne 6, 3) := dk_154 0 6 (dk_at dksX1_receiveBy_3 20 rfl rfl)
theorem dX1_receiveBy_94 : decode cX1_receiveBy 94 = .ok (.bipush (-3), 2) := dk_16 253 (dk_at dksX1_receiveBy_4 0 rfl rfl)
theorem dX1_receiveBy_96 : decode cX1_receiveBy 96 = .ok (.ireturn, 1) := dk_172 (dk_at dksX1_receiveBy_4 2 rfl rfl)
theorem dX1_receiveBy_97 : decode cX1_receiveBy 97 = .ok (.aload 4, 2) := dk_25 4 (dk_at dksX1_receiveBy_4 3 rfl rfl)
theorem dX1_receiveBy_99 : decode cX1_receiveBy 99 = .ok (.aload 6, 2) := dk_25 6 (dk_at dksX1_receiveBy_4 5 rfl rfl)
theorem dX1_receiveBy_101 : decode cX1_receiveBy 101 = .ok (.iconst 1, 1) := dk_4 (dk_at dksX1_receiveBy_4 7 rfl rfl)
theorem dX1_receiveBy_102 : decode cX1_receiveBy 102 = .ok (.iaload, 1) := dk_46 (dk_at dksX1_receiveBy_4 8 rfl rfl)
theorem dX1_receiveBy_103 : decode cX1_receiveBy 103 = .ok (.invokevirtual 377, 3) := dk_182 1 121 (dk_at dksX1_receiveBy_4 9 rfl rfl)
theorem dX1_receiveBy_106 : decode cX1_receiveBy 106 = .ok (.aload_n 0, 1) := dk_42 (dk_at dksX1_receiveBy_4 12 rfl rfl)
theorem dX1_receiveBy_107 : decode cX1_receiveBy 107 = .ok (.getfield 25, 3) := dk_180 0 25 (dk_at dksX1_receiveBy_4 13 rfl rfl)
theorem dX1_receiveBy_110 : decode cX1_receiveBy 110 = .ok (.iload_n 1, 1) := dk_27 (dk_at dksX1_receiveBy_4 16 rfl rfl)
theorem dX1_receiveBy_111 : decode cX1_receiveBy 111 = .ok (.aaload, 1) := dk_50 (dk_at dksX1_receiveBy_4 17 rfl rfl)
theorem dX1_receiveBy_112 : decode cX1_receiveBy 112 = .ok (.iload_n 2, 1) := dk_28 (dk_at dksX1_receiveBy_4 18 rfl rfl)
theorem dX1_receiveBy_113 : decode cX1_receiveBy 113 = .ok (.aaload, 1) := dk_50 (dk_at dksX1_receiveBy_4 19 rfl rfl)
theorem dX1_receiveBy_114 : decode cX1_receiveBy 114 = .ok (.astore 7, 2) := dk_58 7 (dk_at dksX1_receiveBy_4 20 rfl rfl)
theorem dX1_receiveBy_116 : decode cX1_receiveBy 116 = .ok (.aload 7, 2) := dk_25 7 (dk_at dksX1_receiveBy_4 22 rfl rfl)
theorem dX1_receiveBy_118 : decode cX1_receiveBy 118 = .ok (.aload 5, 2) := dk_25 5 (dk_at dksX1_receiveBy_5 0 rfl rfl)
theorem dX1_receiveBy_120 : decode cX1_receiveBy 120 = .ok (.getfield 206, 3) := dk_180 0 206 (dk_at dksX1_receiveBy_5 2 rfl rfl)
theorem dX1_receiveBy_123 : decode cX1_receiveBy 123 = .ok (.putfield 218, 3) := dk_181 0 218 (dk_at dksX1_receiveBy_5 5 rfl rfl)
theorem dX1_receiveBy_126 : decode cX1_receiveBy 126 = .ok (.iload_n 3, 1) := dk_29 (dk_at dksX1_receiveBy_5 8 rfl rfl)
theorem dX1_receiveBy_127 : decode cX1_receiveBy 127 = .ok (.iconst 2, 1) := dk_5 (dk_at dksX1_receiveBy_5 9 rfl rfl)
theorem dX1_receiveBy_128 : decode cX1_receiveBy 128 = .ok (.if_icmp .ne 32, 3) := dk_160 0 32 (dk_at dksX1_receiveBy_5 10 rfl rfl)
theorem dX1_receiveBy_131 : decode cX1_receiveBy 131 = .ok (.aload 7, 2) := dk_25 7 (dk_at dksX1_receiveBy_5 13 rfl rfl)
theorem dX1_receiveBy_133 : decode cX1_receiveBy 133 = .ok (.aload 7, 2) := dk_25 7 (dk_at dksX1_receiveBy_5 15 rfl rfl)
theorem dX1_receiveBy_135 : decode cX1_receiveBy 135 = .ok (.getfield 104, 3) := dk_180 0 104 (dk_at dksX1_receiveBy_5 17 rfl rfl)
theorem dX1_receiveBy_138 : decode cX1_receiveBy 138 = .ok (.putfield 358, 3) := dk_181 1 102 (dk_at dksX1_receiveBy_5 20 rfl rfl)
theorem dX1_receiveBy_141 : decode cX1_receiveBy 141 = .ok (.aload 7, 2) := dk_25 7 (dk_at dksX1_receiveBy_6 0 rfl rfl)
theorem dX1_receiveBy_143 : decode cX1_receiveBy 143 = .ok (.aload 4, 2) := dk_25 4 (dk_at dksX1_receiveBy_6 2 rfl rfl)
theorem dX1_receiveBy_145 : decode cX1_receiveBy 145 = .ok (.putfield 104, 3) := dk_181 0 104 (dk_at dksX1_receiveBy_6 4 rfl rfl)
theorem dX1_receiveBy_148 : decode cX1_receiveBy 148 = .ok (.aload 7, 2) := dk_25 7 (dk_at dksX1_receiveBy_6 7 rfl rfl)
theorem dX1_receiveBy_150 : decode cX1_receiveBy 150 = .ok (.aconst_null, 1) := dk_1 (dk_at dksX1_receiveBy_6 9 rfl rfl)
theorem dX1_receiveBy_151 : decode cX1_receiveBy 151 = .ok (.putfield 348, 3) := dk_181 1 92 (dk_at dksX1_receiveBy_6 10 rfl rfl)
theorem dX1_receiveBy_154 : decode cX1_receiveBy 154 = .ok (.aload_n 0, 1) := dk_42 (dk_at dksX1_receiveBy_6 13 rfl rfl)
theorem dX1_receiveBy_155 : decode cX1_receiveBy 155 = .ok (.iload_n 1, 1) := dk_27 (dk_at dksX1_receiveBy_6 14 rfl rfl)
theorem dX1_receiveBy_156 : decode cX1_receiveBy 156 = .ok (.iload_n 2, 1) := dk_28 (dk_at dksX1_receiveBy_6 15 rfl rfl)
theorem dX1_receiveBy_157 : decode cX1_receiveBy 157 = .ok (.invokevirtual 361, 3) := dk_182 1 105 (dk_at dksX1_receiveBy_6 16 rfl rfl)
theorem dX1_receiveBy_160 : decode cX1_receiveBy 160 = .ok (.aload 6, 2) := dk_25 6 (dk_at dksX1_receiveBy_6 19 rfl rfl)
theorem dX1_receiveBy_162 : decode cX1_receiveBy 162 = .ok (.iconst 2, 1) := dk_5 (dk_at dksX1_receiveBy_6 21 rfl rfl)
theorem dX1_receiveBy_163 : decode cX1_receiveBy 163 = .ok (.iaload, 1) := dk_46 (dk_at dksX1_receiveBy_6 22 rfl rfl)
theorem dX1_receiveBy_164 : decode cX1_receiveBy 164 = .ok (.iconst (-1), 1) := dk_2 (dk_at dksX1_receiveBy_6 23 rfl rfl)
theorem dX1_receiveBy_165 : decode cX1_receiveBy 165 = .ok (.if_icmp .ne 5, 3) := dk_160 0 5 (dk_at dksX1_receiveBy_7 0 rfl rfl)
theorem dX1_receiveBy_168 : decode cX1_receiveBy 168 = .ok (.iconst 2, 1) := dk_5 (dk_at dksX1_receiveBy_7 3 rfl rfl)
theorem dX1_receiveBy_169 : decode cX1_receiveBy 169 = .ok (.ireturn, 1) := dk_172 (dk_at dksX1_receiveBy_7 4 rfl rfl)
theorem dX1_receiveBy_170 : decode cX1_receiveBy 170 = .ok (.aload_n 0, 1) := dk_42 (dk_at dksX1_receiveBy_7 5 rfl rfl)
theorem dX1_receiveBy_171 : decode cX1_receiveBy 171 = .ok (.getfield 19, 3) := dk_180 0 19 (dk_at dksX1_receiveBy_7 6 rfl rfl)
theorem dX1_receiveBy_174 : decode cX1_receiveBy 174 = .ok (.iload_n 1, 1) := dk_27 (dk_at dksX1_receiveBy_7 9 rfl rfl)
theorem dX1_receiveBy_175 : decode cX1_receiveBy 175 = .ok (.aaload, 1) := dk_50 (dk_at dksX1_receiveBy_7 10 rfl rfl)
theorem dX1_receiveBy_176 : decode cX1_receiveBy 176 = .ok (.aload 6, 2) := dk_25 6 (dk_at dksX1_receiveBy_7 11 rfl rfl)
theorem dX1_receiveBy_178 : decode cX1_receiveBy 178 = .ok (.iconst 2, 1) := dk_5 (dk_at dksX1_receiveBy_7 13 rfl rfl)
theorem dX1_receiveBy_179 : decode cX1_receiveBy 179 = .ok (.iaload, 1) := dk_46 (dk_at dksX1_receiveBy_7 14 rfl rfl)
theorem dX1_receiveBy_180 : decode cX1_receiveBy 180 = .ok (.invokevirtual 101, 3) := dk_182 0 101 (dk_at dksX1_receiveBy_7 15 rfl rfl)
theorem dX1_receiveBy_183 : decode cX1_receiveBy 183 = .ok (.iload_n 2, 1) := dk_28 (dk_at dksX1_receiveBy_7 18 rfl rfl)
theorem dX1_receiveBy_184 : decode cX1_receiveBy 184 = .ok (.if_icmp .eq 6, 3) := dk_159 0 6 (dk_at dksX1_receiveBy_7 19 rfl rfl)
theorem dX1_receiveBy_187 : decode cX1_receiveBy 187 = .ok (.bipush (-5), 2) := dk_16 251 (dk_at dksX1_receiveBy_7 22 rfl rfl)
theorem dX1_receiveBy_189 : decode cX1_receiveBy 189 = .ok (.ireturn, 1) := dk_172 (dk_at dksX1_receiveBy_8 0 rfl rfl)
theorem dX1_receiveBy_190 : decode cX1_receiveBy 190 = .ok (.aload_n 0, 1) := dk_42 (dk_at dksX1_receiveBy_8 1 rfl rfl)
theorem dX1_receiveBy_191 : decode cX1_receiveBy 191 = .ok (.getfield 35, 3) := dk_180 0 35 (dk_at dksX1_receiveBy_8 2 rfl rfl)
theorem dX1_receiveBy_194 : decode cX1_receiveBy 194 = .ok (.iload_n 1, 1) := dk_27 (dk_at dksX1_receiveBy_8 5 rfl rfl)
theorem dX1_receiveBy_195 : decode cX1_receiveBy 195 = .ok (.invokevirtual 178, 3) := dk_182 0 178 (dk_at dksX1_receiveBy_8 6 rfl rfl)
theorem dX1_receiveBy_198 : decode cX1_receiveBy 198 = .ok (.checkcast 28, 3) := dk_192 0 28 (dk_at dksX1_receiveBy_8 9 rfl rfl)
theorem dX1_receiveBy_201 : decode cX1_receiveBy 201 = .ok (.iconst 4, 1) := dk_7 (dk_at dksX1_receiveBy_8 12 rfl rfl)
theorem dX1_receiveBy_202 : decode cX1_receiveBy 202 = .ok (.newarray .int, 2) := dk_188_10 (dk_at dksX1_receiveBy_8 13 rfl rfl)
theorem dX1_receiveBy_204 : decode cX1_receiveBy 204 = .ok (.dup, 1) := dk_89 (dk_at dksX1_receiveBy_8 15 rfl rfl)
theorem dX1_receiveBy_205 : decode cX1_receiveBy 205 = .ok (.iconst 0, 1) := dk_3 (dk_at dksX1_receiveBy_8 16 rfl rfl)
theorem dX1_receiveBy_206 : decode cX1_receiveBy 206 = .ok (.iload_n 2, 1) := dk_28 (dk_at dksX1_receiveBy_8 17 rfl rfl)
theorem dX1_receiveBy_207 : decode cX1_receiveBy 207 = .ok (.iastore, 1) := dk_79 (dk_at dksX1_receiveBy_8 18 rfl rfl)
theorem dX1_receiveBy_208 : decode cX1_receiveBy 208 = .ok (.dup, 1) := dk_89 (dk_at dksX1_receiveBy_8 19 rfl rfl)
theorem dX1_receiveBy_209 : decode cX1_receiveBy 209 = .ok (.iconst 1, 1) := dk_4 (dk_at dksX1_receiveBy_8 20 rfl rfl)
theorem dX1_receiveBy_210 : decode cX1_receiveBy 210 = .ok (.aload 6, 2) := dk_25 6 (dk_at dksX1_receiveBy_8 21 rfl rfl)
theorem dX1_receiveBy_212 : decode cX1_receiveBy 212 = .ok (.iconst 2, 1) := dk_5 (dk_at dksX1_receiveBy_8 23 rfl rfl)
theorem dX1_receiveBy_213 : decode cX1_receiveBy 213 = .ok (.iaload, 1) := dk_46 (dk_at dksX1_receiveBy_9 0 rfl rfl)
theorem dX1_receiveBy_214 : decode cX1_receiveBy 214 = .ok (.iastore, 1) := dk_79 (dk_at dksX1_receiveBy_9 1 rfl rfl)
theorem dX1_receiveBy_215 : decode cX1_receiveBy 215 = .ok (.dup, 1) := dk_89 (dk_at dksX1_receiveBy_9 2 rfl rfl)
theorem dX1_receiveBy_216 : decode cX1_receiveBy 216 = .ok (.iconst 2, 1) := dk_5 (dk_at dksX1_receiveBy_9 3 rfl rfl)
theorem dX1_receiveBy_217 : decode cX1_receiveBy 217 = .ok (.aload 6, 2) := dk_25 6 (dk_at dksX1_receiveBy_9 4 rfl rfl)
theorem dX1_receiveBy_219 : decode cX1_receiveBy 219 = .ok (.iconst 3, 1) := dk_6 (dk_at dksX1_receiveBy_9 6 rfl rfl)
theorem dX1_receiveBy_220 : decode cX1_receiveBy 220 = .ok (.iaload, 1) := dk_46 (dk_at dksX1_receiveBy_9 7 rfl rfl)
theorem dX1_receiveBy_221 : decode cX1_receiveBy 221 = .ok (.iastore, 1) := dk_79 (dk_at dksX1_receiveBy_9 8 rfl rfl)
theorem dX1_receiveBy_222 : decode cX1_receiveBy 222 = .ok (.dup, 1) := dk_89 (dk_at dksX1_receiveBy_9 9 rfl rfl)
theorem dX1_receiveBy_223 : decode cX1_receiveBy 223 = .ok (.iconst 3, 1) := dk_6 (dk_at dksX1_receiveBy_9 10 rfl rfl)
theorem dX1_receiveBy_224 : decode cX1_receiveBy 224 = .ok (.aload 6, 2) := dk_25 6 (dk_at dksX1_receiveBy_9 11 rfl rfl)
theorem dX1_receiveBy_226 : decode cX1_receiveBy 226 = .ok (.iconst 4, 1) := dk_7 (dk_at dksX1_receiveBy_9 13 rfl rfl)
theorem dX1_receiveBy_227 : decode cX1_receiveBy 227 = .ok (.iaload, 1) := dk_46 (dk_at dksX1_receiveBy_9 14 rfl rfl)
theorem dX1_receiveBy_228 : decode cX1_receiveBy 228 = .ok (.iastore, 1) := dk_79 (dk_at dksX1_receiveBy_9 15 rfl rfl)
theorem dX1_receiveBy_229 : decode cX1_receiveBy 229 = .ok (.invokevirtual 42, 3) := dk_182 0 42 (dk_at dksX1_receiveBy_9 16 rfl rfl)
theorem dX1_receiveBy_232 : decode cX1_receiveBy 232 = .ok (.pop, 1) := dk_87 (dk_at dksX1_receiveBy_9 19 rfl rfl)
theorem dX1_receiveBy_233 : decode cX1_receiveBy 233 = .ok (.iconst 1, 1) := dk_4 (dk_at dksX1_receiveBy_9 20 rfl rfl)
theorem dX1_receiveBy_234 : decode cX1_receiveBy 234 = .ok (.ireturn, 1) := dk_172 (dk_at dksX1_receiveBy_9 21 rfl rfl)
abbrev cX1_lose : ByteArray := prog_1_method_11_code
def yX1_lose : MethodName := ⟨RX1, "lose", "(I)I"⟩
def dkwX1_lose_0 : List UInt8 := [42, 27, 182, 0, 155, 42, 180, 0, 31, 27, 182, 0, 158, 87, 42, 180, 0, 31, 182, 0, 174, 172]
abbrev dktX1_lose_0 : List UInt8 := dkwX1_lose_0 ++ []
theorem dksX1_lose_0 : cX1_lose.data.toList.drop 0 = dktX1_lose_0 := by decide +kernel
theorem dX1_lose_0 : decode cX1_lose 0 = .ok (.aload_n 0, 1) := dk_42 (dk_at dksX1_lose_0 0 rfl rfl)
theorem dX1_lose_1 : decode cX1_lose 1 = .ok (.iload_n 1, 1) := dk_27 (dk_at dksX1_lose_0 1 rfl rfl)
theorem dX1_lose_2 : decode cX1_lose 2 = .ok (.invokevirtual 155, 3) := dk_182 0 155 (dk_at dksX1_lose_0 2 rfl rfl)
theorem dX1_lose_5 : decode cX1_lose 5 = .ok (.aload_n 0, 1) := dk_42 (dk_at dksX1_lose_0 5 rfl rfl)
theorem dX1_lose_6 : decode cX1_lose 6 = .ok (.getfield 31, 3) := dk_180 0 31 (dk_at dksX1_lose_0 6 rfl rfl)
theorem dX1_lose_9 : decode cX1_lose 9 = .ok (.iload_n 1, 1) := dk_27 (dk_at dksX1_lose_0 9 rfl rfl)
theorem dX1_lose_10 : decode cX1_lose 10 = .ok (.invokevirtual 158, 3) := dk_182 0 158 (dk_at dksX1_lose_0 10 rfl rfl)
theorem dX1_lose_13 : decode cX1_lose 13 = .ok (.pop, 1) := dk_87 (dk_at dksX1_lose_0 13 rfl rfl)
theorem dX1_lose_14 : decode cX1_lose 14 = .ok (.aload_n 0, 1) := dk_42 (dk_at dksX1_lose_0 14 rfl rfl)
theorem dX1_lose_15 : decode cX1_lose 15 = .ok (.getfield 31, 3) := dk_180 0 31 (dk_at dksX1_lose_0 15 rfl rfl)
theorem dX1_lose_18 : decode cX1_lose 18 = .ok (.invokevirtual 174, 3) := dk_182 0 174 (dk_at dksX1_lose_0 18 rfl rfl)
theorem dX1_lose_21 : decode cX1_lose 21 = .ok (.ireturn, 1) := dk_172 (dk_at dksX1_lose_0 21 rfl rfl)
abbrev cX1_twice : ByteArray := prog_1_method_12_code
def yX1_twice : MethodName := ⟨RX1, "twice", "(I)I"⟩
def dkwX1_twice_2 : List UInt8 := [183, 0, 181, 182, 0, 42, 87, 42, 180, 0, 31, 182, 0, 174, 172]
abbrev dktX1_twice_2 : List UInt8 := dkwX1_twice_2 ++ []
def dkwX1_twice_1 : List UInt8 := [183, 0, 67, 191, 42, 180, 0, 31, 187, 0, 162, 89, 42, 180, 0, 31, 27, 182, 0, 178, 192, 0, 162]
abbrev dktX1_twice_1 : List UInt8 := dkwX1_twice_1 ++ dktX1_twice_2
def dkwX1_twice_0 : List UInt8 := [42, 27, 182, 0, 155, 42, 180, 0, 31, 182, 0, 174, 16, 60, 161, 0, 13, 187, 0, 63, 89, 18, 85]
abbrev dktX1_twice_0 : List UInt8 := dkwX1_twice_0 ++ dktX1_twice_1
theorem dksX1_twice_0 : cX1_twice.data.toList.drop 0 = dktX1_twice_0 := by decide +kernel
theorem dksX1_twice_1 : cX1_twice.data.toList.drop 23 = dktX1_twice_1 := dk_seg dksX1_twice_0 23 rfl rfl
theorem dksX1_twice_2 : cX1_twice.data.toList.drop 46 = dktX1_twice_2 := dk_seg dksX1_twice_1 23 rfl rfl
theorem dX1_twice_0 : decode cX1_twice 0 = .ok (.aload_n 0, 1) := dk_42 (dk_at dksX1_twice_0 0 rfl rfl)
theorem dX1_twice_1 : decode cX1_twice 1 = .ok (.iload_n 1, 1) := dk_27 (dk_at dksX1_twice_0 1 rfl rfl)
theorem dX1_twice_2 : decode cX1_twice 2 = .ok (.invokevirtual 155, 3) := dk_182 0 155 (dk_at dksX1_twice_0 2 rfl rfl)
theorem dX1_twice_5 : decode cX1_twice 5 = .ok (.aload_n 0, 1) := dk_42 (dk_at dksX1_twice_0 5 rfl rfl)
theorem dX1_twice_6 : decode cX1_twice 6 = .ok (.getfield 31, 3) := dk_180 0 31 (dk_at dksX1_twice_0 6 rfl rfl)
theorem dX1_twice_9 : decode cX1_twice 9 = .ok (.invokevirtual 174, 3) := dk_182 0 174 (dk_at dksX1_twice_0 9 rfl rfl)
theorem dX1_twice_12 : decode cX1_twice 12 = .ok (.bipush 60, 2) := dk_16 60 (dk_at dksX1_twice_0 12 rfl rfl)
theorem dX1_twice_14 : decode cX1_twice 14 = .ok (.if_icmp .lt 13, 3) := dk_161 0 13 (dk_at dksX1_twice_0 14 rfl rfl)
theorem dX1_twice_17 : decode cX1_twice 17 = .ok (.new 63, 3) := dk_187 0 63 (dk_at dksX1_twice_0 17 rfl rfl)
theorem dX1_twice_20 : decode cX1_twice 20 = .ok (.dup, 1) := dk_89 (dk_at dksX1_twice_0 20 rfl rfl)
theorem dX1_twice_21 : decode cX1_twice 21 = .ok (.ldc 85, 2) := dk_18 85 (dk_at dksX1_twice_0 21 rfl rfl)
theorem dX1_twice_23 : decode cX1_twice 23 = .ok (.invokespecial 67, 3) := dk_183 0 67 (dk_at dksX1_twice_1 0 rfl rfl)
theorem dX1_twice_26 : decode cX1_twice 26 = .ok (.athrow, 1) := dk_191 (dk_at dksX1_twice_1 3 rfl rfl)
theorem dX1_twice_27 : decode cX1_twice 27 = .ok (.aload_n 0, 1) := dk_42 (dk_at dksX1_twice_1 4 rfl rfl)
theorem dX1_twice_28 : decode cX1_twice 28 = .ok (.getfield 31, 3) := dk_180 0 31 (dk_at dksX1_twice_1 5 rfl rfl)
theorem dX1_twice_31 : decode cX1_twice 31 = .ok (.new 162, 3) := dk_187 0 162 (dk_at dksX1_twice_1 8 rfl rfl)
theorem dX1_twice_34 : decode cX1_twice 34 = .ok (.dup, 1) := dk_89 (dk_at dksX1_twice_1 11 rfl rfl)
theorem dX1_twice_35 : decode cX1_twice 35 = .ok (.aload_n 0, 1) := dk_42 (dk_at dksX1_twice_1 12 rfl rfl)
theorem dX1_twice_36 : decode cX1_twice 36 = .ok (.getfield 31, 3) := dk_180 0 31 (dk_at dksX1_twice_1 13 rfl rfl)
theorem dX1_twice_39 : decode cX1_twice 39 = .ok (.iload_n 1, 1) := dk_27 (dk_at dksX1_twice_1 16 rfl rfl)
theorem dX1_twice_40 : decode cX1_twice 40 = .ok (.invokevirtual 178, 3) := dk_182 0 178 (dk_at dksX1_twice_1 17 rfl rfl)
theorem dX1_twice_43 : decode cX1_twice 43 = .ok (.checkcast 162, 3) := dk_192 0 162 (dk_at dksX1_twice_1 20 rfl rfl)
theorem dX1_twice_46 : decode cX1_twice 46 = .ok (.invokespecial 181, 3) := dk_183 0 181 (dk_at dksX1_twice_2 0 rfl rfl)
theorem dX1_twice_49 : decode cX1_twice 49 = .ok (.invokevirtual 42, 3) := dk_182 0 42 (dk_at dksX1_twice_2 3 rfl rfl)
theorem dX1_twice_52 : decode cX1_twice 52 = .ok (.pop, 1) := dk_87 (dk_at dksX1_twice_2 6 rfl rfl)
theorem dX1_twice_53 : decode cX1_twice 53 = .ok (.aload_n 0, 1) := dk_42 (dk_at dksX1_twice_2 7 rfl rfl)
theorem dX1_twice_54 : decode cX1_twice 54 = .ok (.getfield 31, 3) := dk_180 0 31 (dk_at dksX1_twice_2 8 rfl rfl)
theorem dX1_twice_57 : decode cX1_twice 57 = .ok (.invokevirtual 174, 3) := dk_182 0 174 (dk_at dksX1_twice_2 11 rfl rfl)
theorem dX1_twice_60 : decode cX1_twice 60 = .ok (.ireturn, 1) := dk_172 (dk_at dksX1_twice_2 14 rfl rfl)
abbrev cX1_turn : ByteArray := prog_1_method_13_code
def yX1_turn : MethodName := ⟨RX1, "turn", "(III)I"⟩
def dkwX1_turn_6 : List UInt8 := [181, 0, 194, 25, 4, 180, 0, 191, 28, 92, 46, 29, 96, 79, 25, 4, 180, 0, 191, 28, 46, 172]
abbrev dktX1_turn_6 : List UInt8 := dkwX1_turn_6 ++ []
def dkwX1_turn_5 : List UInt8 := [25, 4, 180, 0, 188, 2, 160, 0, 21, 25, 4, 28, 181, 0, 188, 25, 4, 25, 4, 180, 0, 191, 28, 46]
abbrev dktX1_turn_5 : List UInt8 := dkwX1_turn_5 ++ dktX1_turn_6
def dkwX1_turn_4 : List UInt8 := [2, 159, 0, 22, 25, 4, 180, 0, 188, 28, 159, 0, 13, 187, 0, 63, 89, 18, 204, 183, 0, 67, 191]
abbrev dktX1_turn_4 : List UInt8 := dkwX1_turn_4 ++ dktX1_turn_5
def dkwX1_turn_3 : List UInt8 := [184, 0, 197, 17, 39, 16, 164, 0, 13, 187, 0, 51, 89, 18, 202, 183, 0, 55, 191, 25, 4, 180, 0, 188]
abbrev dktX1_turn_3 : List UInt8 := dkwX1_turn_3 ++ dktX1_turn_4
def dkwX1_turn_2 : List UInt8 := [180, 0, 188, 28, 160, 0, 37, 25, 4, 180, 0, 191, 28, 46, 29, 96, 25, 4, 180, 0, 194, 100]
abbrev dktX1_turn_2 : List UInt8 := dkwX1_turn_2 ++ dktX1_turn_3
def dkwX1_turn_1 : List UInt8 := [153, 0, 54, 29, 153, 0, 50, 29, 17, 254, 12, 161, 0, 43, 29, 17, 1, 244, 163, 0, 36, 25, 4]
abbrev dktX1_turn_1 : List UInt8 := dkwX1_turn_1 ++ dktX1_turn_2
def dkwX1_turn_0 : List UInt8 := [42, 27, 182, 0, 155, 42, 180, 0, 31, 27, 182, 0, 178, 192, 0, 162, 58, 4, 25, 4, 28, 182, 0, 184]
abbrev dktX1_turn_0 : List UInt8 := dkwX1_turn_0 ++ dktX1_turn_1
theorem dksX1_turn_0 : cX1_turn.data.toList.drop 0 = dktX1_turn_0 := by decide +kernel
theorem dksX1_turn_1 : cX1_turn.data.toList.drop 24 = dktX1_turn_1 := dk_seg dksX1_turn_0 24 rfl rfl
theorem dksX1_turn_2 : cX1_turn.data.toList.drop 47 = dktX1_turn_2 := dk_seg dksX1_turn_1 23 rfl rfl
theorem dksX1_turn_3 : cX1_turn.data.toList.drop 69 = dktX1_turn_3 := dk_seg dksX1_turn_2 22 rfl rfl
theorem dksX1_turn_4 : cX1_turn.data.toList.drop 93 = dktX1_turn_4 := dk_seg dksX1_turn_3 24 rfl rfl
theorem dksX1_turn_5 : cX1_turn.data.toList.drop 116 = dktX1_turn_5 := dk_seg dksX1_turn_4 23 rfl rfl
theorem dksX1_turn_6 : cX1_turn.data.toList.drop 140 = dktX1_turn_6 := dk_seg dksX1_turn_5 24 rfl rfl
theorem dX1_turn_0 : decode cX1_turn 0 = .ok (.aload_n 0, 1) := dk_42 (dk_at dksX1_turn_0 0 rfl rfl)
theorem dX1_turn_1 : decode cX1_turn 1 = .ok (.iload_n 1, 1) := dk_27 (dk_at dksX1_turn_0 1 rfl rfl)
theorem dX1_turn_2 : decode cX1_turn 2 = .ok (.invokevirtual 155, 3) := dk_182 0 155 (dk_at dksX1_turn_0 2 rfl rfl)
theorem dX1_turn_5 : decode cX1_turn 5 = .ok (.aload_n 0, 1) := dk_42 (dk_at dksX1_turn_0 5 rfl rfl)
theorem dX1_turn_6 : decode cX1_turn 6 = .ok (.getfield 31, 3) := dk_180 0 31 (dk_at dksX1_turn_0 6 rfl rfl)
theorem dX1_turn_9 : decode cX1_turn 9 = .ok (.iload_n 1, 1) := dk_27 (dk_at dksX1_turn_0 9 rfl rfl)
theorem dX1_turn_10 : decode cX1_turn 10 = .ok (.invokevirtual 178, 3) := dk_182 0 178 (dk_at dksX1_turn_0 10 rfl rfl)
theorem dX1_turn_13 : decode cX1_turn 13 = .ok (.checkcast 162, 3) := dk_192 0 162 (dk_at dksX1_turn_0 13 rfl rfl)
theorem dX1_turn_16 : decode cX1_turn 16 = .ok (.astore 4, 2) := dk_58 4 (dk_at dksX1_turn_0 16 rfl rfl)
theorem dX1_turn_18 : decode cX1_turn 18 = .ok (.aload 4, 2) := dk_25 4 (dk_at dksX1_turn_0 18 rfl rfl)
theorem dX1_turn_20 : decode cX1_turn 20 = .ok (.iload_n 2, 1) := dk_28 (dk_at dksX1_turn_0 20 rfl rfl)
theorem dX1_turn_21 : decode cX1_turn 21 = .ok (.invokevirtual 184, 3) := dk_182 0 184 (dk_at dksX1_turn_0 21 rfl rfl)
theorem dX1_turn_24 : decode cX1_turn 24 = .ok (.ifCond .eq 54, 3) := dk_153 0 54 (dk_at dksX1_turn_1 0 rfl rfl)
theorem dX1_turn_27 : decode cX1_turn 27 = .ok (.iload_n 3, 1) := dk_29 (dk_at dksX1_turn_1 3 rfl rfl)
theorem dX1_turn_28 : decode cX1_turn 28 = .ok (.ifCond .eq 50, 3) := dk_153 0 50 (dk_at dksX1_turn_1 4 rfl rfl)
theorem dX1_turn_31 : decode cX1_turn 31 = .ok (.iload_n 3, 1) := dk_29 (dk_at dksX1_turn_1 7 rfl rfl)
theorem dX1_turn_32 : decode cX1_turn 32 = .ok (.sipush (-500), 3) := dk_17 254 12 (dk_at dksX1_turn_1 8 rfl rfl)
theorem dX1_turn_35 : decode cX1_turn 35 = .ok (.if_icmp .lt 43, 3) := dk_161 0 43 (dk_at dksX1_turn_1 11 rfl rfl)
theorem dX1_turn_38 : decode cX1_turn 38 = .ok (.iload_n 3, 1) := dk_29 (dk_at dksX1_turn_1 14 rfl rfl)
theorem dX1_turn_39 : decode cX1_turn 39 = .ok (.sipush 500, 3) := dk_17 1 244 (dk_at dksX1_turn_1 15 rfl rfl)
theorem dX1_turn_42 : decode cX1_turn 42 = .ok (.if_icmp .gt 36, 3) := dk_163 0 36 (dk_at dksX1_turn_1 18 rfl rfl)
theorem dX1_turn_45 : decode cX1_turn 45 = .ok (.aload 4, 2) := dk_25 4 (dk_at dksX1_turn_1 21 rfl rfl)
theorem dX1_turn_47 : decode cX1_turn 47 = .ok (.getfield 188, 3) := dk_180 0 188 (dk_at dksX1_turn_2 0 rfl rfl)
theorem dX1_turn_50 : decode cX1_turn 50 = .ok (.iload_n 2, 1) := dk_28 (dk_at dksX1_turn_2 3 rfl rfl)
theorem dX1_turn_51 : decode cX1_turn 51 = .ok (.if_icmp .ne 37, 3) := dk_160 0 37 (dk_at dksX1_turn_2 4 rfl rfl)
theorem dX1_turn_54 : decode cX1_turn 54 = .ok (.aload 4, 2) := dk_25 4 (dk_at dksX1_turn_2 7 rfl rfl)
theorem dX1_turn_56 : decode cX1_turn 56 = .ok (.getfield 191, 3) := dk_180 0 191 (dk_at dksX1_turn_2 9 rfl rfl)
theorem dX1_turn_59 : decode cX1_turn 59 = .ok (.iload_n 2, 1) := dk_28 (dk_at dksX1_turn_2 12 rfl rfl)
theorem dX1_turn_60 : decode cX1_turn 60 = .ok (.iaload, 1) := dk_46 (dk_at dksX1_turn_2 13 rfl rfl)
theorem dX1_turn_61 : decode cX1_turn 61 = .ok (.iload_n 3, 1) := dk_29 (dk_at dksX1_turn_2 14 rfl rfl)
theorem dX1_turn_62 : decode cX1_turn 62 = .ok (.iadd, 1) := dk_96 (dk_at dksX1_turn_2 15 rfl rfl)
theorem dX1_turn_63 : decode cX1_turn 63 = .ok (.aload 4, 2) := dk_25 4 (dk_at dksX1_turn_2 16 rfl rfl)
theorem dX1_turn_65 : decode cX1_turn 65 = .ok (.getfield 194, 3) := dk_180 0 194 (dk_at dksX1_turn_2 18 rfl rfl)
theorem dX1_turn_68 : decode cX1_turn 68 = .ok (.isub, 1) := dk_100 (dk_at dksX1_turn_2 21 rfl rfl)
theorem dX1_turn_69 : decode cX1_turn 69 = .ok (.invokestatic 197, 3) := dk_184 0 197 (dk_at dksX1_turn_3 0 rfl rfl)
theorem dX1_turn_72 : decode cX1_turn 72 = .ok (.sipush 10000, 3) := dk_17 39 16 (dk_at dksX1_turn_3 3 rfl rfl)
theorem dX1_turn_75 : decode cX1_turn 75 = .ok (.if_icmp .le 13, 3) := dk_164 0 13 (dk_at dksX1_turn_3 6 rfl rfl)
theorem dX1_turn_78 : decode cX1_turn 78 = .ok (.new 51, 3) := dk_187 0 51 (dk_at dksX1_turn_3 9 rfl rfl)
theorem dX1_turn_81 : decode cX1_turn 81 = .ok (.dup, 1) := dk_89 (dk_at dksX1_turn_3 12 rfl rfl)
theorem dX1_turn_82 : decode cX1_turn 82 = .ok (.ldc 202, 2) := dk_18 202 (dk_at dksX1_turn_3 13 rfl rfl)
theorem dX1_turn_84 : decode cX1_turn 84 = .ok (.invokespecial 55, 3) := dk_183 0 55 (dk_at dksX1_turn_3 15 rfl rfl)
theorem dX1_turn_87 : decode cX1_turn 87 = .ok (.athrow, 1) := dk_191 (dk_at dksX1_turn_3 18 rfl rfl)
theorem dX1_turn_88 : decode cX1_turn 88 = .ok (.aload 4, 2) := dk_25 4 (dk_at dksX1_turn_3 19 rfl rfl)
theorem dX1_turn_90 : decode cX1_turn 90 = .ok (.getfield 188, 3) := dk_180 0 188 (dk_at dksX1_turn_3 21 rfl rfl)
theorem dX1_turn_93 : decode cX1_turn 93 = .ok (.iconst (-1), 1) := dk_2 (dk_at dksX1_turn_4 0 rfl rfl)
theorem dX1_turn_94 : decode cX1_turn 94 = .ok (.if_icmp .eq 22, 3) := dk_159 0 22 (dk_at dksX1_turn_4 1 rfl rfl)
theorem dX1_turn_97 : decode cX1_turn 97 = .ok (.aload 4, 2) := dk_25 4 (dk_at dksX1_turn_4 4 rfl rfl)
theorem dX1_turn_99 : decode cX1_turn 99 = .ok (.getfield 188, 3) := dk_180 0 188 (dk_at dksX1_turn_4 6 rfl rfl)
theorem dX1_turn_102 : decode cX1_turn 102 = .ok (.iload_n 2, 1) := dk_28 (dk_at dksX1_turn_4 9 rfl rfl)
theorem dX1_turn_103 : decode cX1_turn 103 = .ok (.if_icmp .eq 13, 3) := dk_159 0 13 (dk_at dksX1_turn_4 10 rfl rfl)
theorem dX1_turn_106 : decode cX1_turn 106 = .ok (.new 63, 3) := dk_187 0 63 (dk_at dksX1_turn_4 13 rfl rfl)
theorem dX1_turn_109 : decode cX1_turn 109 = .ok (.dup, 1) := dk_89 (dk_at dksX1_turn_4 16 rfl rfl)
theorem dX1_turn_110 : decode cX1_turn 110 = .ok (.ldc 204, 2) := dk_18 204 (dk_at dksX1_turn_4 17 rfl rfl)
theorem dX1_turn_112 : decode cX1_turn 112 = .ok (.invokespecial 67, 3) := dk_183 0 67 (dk_at dksX1_turn_4 19 rfl rfl)
theorem dX1_turn_115 : decode cX1_turn 115 = .ok (.athrow, 1) := dk_191 (dk_at dksX1_turn_4 22 rfl rfl)
theorem dX1_turn_116 : decode cX1_turn 116 = .ok (.aload 4, 2) := dk_25 4 (dk_at dksX1_turn_5 0 rfl rfl)
theorem dX1_turn_118 : decode cX1_turn 118 = .ok (.getfield 188, 3) := dk_180 0 188 (dk_at dksX1_turn_5 2 rfl rfl)
theorem dX1_turn_121 : decode cX1_turn 121 = .ok (.iconst (-1), 1) := dk_2 (dk_at dksX1_turn_5 5 rfl rfl)
theorem dX1_turn_122 : decode cX1_turn 122 = .ok (.if_icmp .ne 21, 3) := dk_160 0 21 (dk_at dksX1_turn_5 6 rfl rfl)
theorem dX1_turn_125 : decode cX1_turn 125 = .ok (.aload 4, 2) := dk_25 4 (dk_at dksX1_turn_5 9 rfl rfl)
theorem dX1_turn_127 : decode cX1_turn 127 = .ok (.iload_n 2, 1) := dk_28 (dk_at dksX1_turn_5 11 rfl rfl)
theorem dX1_turn_128 : decode cX1_turn 128 = .ok (.putfield 188, 3) := dk_181 0 188 (dk_at dksX1_turn_5 12 rfl rfl)
theorem dX1_turn_131 : decode cX1_turn 131 = .ok (.aload 4, 2) := dk_25 4 (dk_at dksX1_turn_5 15 rfl rfl)
theorem dX1_turn_133 : decode cX1_turn 133 = .ok (.aload 4, 2) := dk_25 4 (dk_at dksX1_turn_5 17 rfl rfl)
theorem dX1_turn_135 : decode cX1_turn 135 = .ok (.getfield 191, 3) := dk_180 0 191 (dk_at dksX1_turn_5 19 rfl rfl)
theorem dX1_turn_138 : decode cX1_turn 138 = .ok (.iload_n 2, 1) := dk_28 (dk_at dksX1_turn_5 22 rfl rfl)
theorem dX1_turn_139 : decode cX1_turn 139 = .ok (.iaload, 1) := dk_46 (dk_at dksX1_turn_5 23 rfl rfl)
theorem dX1_turn_140 : decode cX1_turn 140 = .ok (.putfield 194, 3) := dk_181 0 194 (dk_at dksX1_turn_6 0 rfl rfl)
theorem dX1_turn_143 : decode cX1_turn 143 = .ok (.aload 4, 2) := dk_25 4 (dk_at dksX1_turn_6 3 rfl rfl)
theorem dX1_turn_145 : decode cX1_turn 145 = .ok (.getfield 191, 3) := dk_180 0 191 (dk_at dksX1_turn_6 5 rfl rfl)
theorem dX1_turn_148 : decode cX1_turn 148 = .ok (.iload_n 2, 1) := dk_28 (dk_at dksX1_turn_6 8 rfl rfl)
theorem dX1_turn_149 : decode cX1_turn 149 = .ok (.dup2, 1) := dk_92 (dk_at dksX1_turn_6 9 rfl rfl)
theorem dX1_turn_150 : decode cX1_turn 150 = .ok (.iaload, 1) := dk_46 (dk_at dksX1_turn_6 10 rfl rfl)
theorem dX1_turn_151 : decode cX1_turn 151 = .ok (.iload_n 3, 1) := dk_29 (dk_at dksX1_turn_6 11 rfl rfl)
theorem dX1_turn_152 : decode cX1_turn 152 = .ok (.iadd, 1) := dk_96 (dk_at dksX1_turn_6 12 rfl rfl)
theorem dX1_turn_153 : decode cX1_turn 153 = .ok (.iastore, 1) := dk_79 (dk_at dksX1_turn_6 13 rfl rfl)
theorem dX1_turn_154 : decode cX1_turn 154 = .ok (.aload 4, 2) := dk_25 4 (dk_at dksX1_turn_6 14 rfl rfl)
theorem dX1_turn_156 : decode cX1_turn 156 = .ok (.getfield 191, 3) := dk_180 0 191 (dk_at dksX1_turn_6 16 rfl rfl)
theorem dX1_turn_159 : decode cX1_turn 159 = .ok (.iload_n 2, 1) := dk_28 (dk_at dksX1_turn_6 19 rfl rfl)
theorem dX1_turn_160 : decode cX1_turn 160 = .ok (.iaload, 1) := dk_46 (dk_at dksX1_turn_6 20 rfl rfl)
theorem dX1_turn_161 : decode cX1_turn 161 = .ok (.ireturn, 1) := dk_172 (dk_at dksX1_turn_6 21 rfl rfl)
abbrev cX1_reroute : ByteArray := prog_1_method_14_code
def yX1_reroute : MethodName := ⟨RX1, "reroute", "(II)I"⟩
def dkwX1_reroute_2 : List UInt8 := [181, 0, 206, 21, 4, 172]
abbrev dktX1_reroute_2 : List UInt8 := dkwX1_reroute_2 ++ []
def dkwX1_reroute_1 : List UInt8 := [183, 0, 55, 191, 42, 180, 0, 31, 27, 182, 0, 178, 192, 0, 162, 78, 45, 180, 0, 206, 54, 4, 45, 28]
abbrev dktX1_reroute_1 : List UInt8 := dkwX1_reroute_1 ++ dktX1_reroute_2
def dkwX1_reroute_0 : List UInt8 := [42, 27, 182, 0, 155, 28, 4, 161, 0, 9, 28, 16, 99, 164, 0, 13, 187, 0, 51, 89, 18, 71]
abbrev dktX1_reroute_0 : List UInt8 := dkwX1_reroute_0 ++ dktX1_reroute_1
theorem dksX1_reroute_0 : cX1_reroute.data.toList.drop 0 = dktX1_reroute_0 := by decide +kernel
theorem dksX1_reroute_1 : cX1_reroute.data.toList.drop 22 = dktX1_reroute_1 := dk_seg dksX1_reroute_0 22 rfl rfl
theorem dksX1_reroute_2 : cX1_reroute.data.toList.drop 46 = dktX1_reroute_2 := dk_seg dksX1_reroute_1 24 rfl rfl
theorem dX1_reroute_0 : decode cX1_reroute 0 = .ok (.aload_n 0, 1) := dk_42 (dk_at dksX1_reroute_0 0 rfl rfl)
theorem dX1_reroute_1 : decode cX1_reroute 1 = .ok (.iload_n 1, 1) := dk_27 (dk_at dksX1_reroute_0 1 rfl rfl)
theorem dX1_reroute_2 : decode cX1_reroute 2 = .ok (.invokevirtual 155, 3) := dk_182 0 155 (dk_at dksX1_reroute_0 2 rfl rfl)
theorem dX1_reroute_5 : decode cX1_reroute 5 = .ok (.iload_n 2, 1) := dk_28 (dk_at dksX1_reroute_0 5 rfl rfl)
theorem dX1_reroute_6 : decode cX1_reroute 6 = .ok (.iconst 1, 1) := dk_4 (dk_at dksX1_reroute_0 6 rfl rfl)
theorem dX1_reroute_7 : decode cX1_reroute 7 = .ok (.if_icmp .lt 9, 3) := dk_161 0 9 (dk_at dksX1_reroute_0 7 rfl rfl)
theorem dX1_reroute_10 : decode cX1_reroute 10 = .ok (.iload_n 2, 1) := dk_28 (dk_at dksX1_reroute_0 10 rfl rfl)
theorem dX1_reroute_11 : decode cX1_reroute 11 = .ok (.bipush 99, 2) := dk_16 99 (dk_at dksX1_reroute_0 11 rfl rfl)
theorem dX1_reroute_13 : decode cX1_reroute 13 = .ok (.if_icmp .le 13, 3) := dk_164 0 13 (dk_at dksX1_reroute_0 13 rfl rfl)
theorem dX1_reroute_16 : decode cX1_reroute 16 = .ok (.new 51, 3) := dk_187 0 51 (dk_at dksX1_reroute_0 16 rfl rfl)
theorem dX1_reroute_19 : decode cX1_reroute 19 = .ok (.dup, 1) := dk_89 (dk_at dksX1_reroute_0 19 rfl rfl)
theorem dX1_reroute_20 : decode cX1_reroute 20 = .ok (.ldc 71, 2) := dk_18 71 (dk_at dksX1_reroute_0 20 rfl rfl)
theorem dX1_reroute_22 : decode cX1_reroute 22 = .ok (.invokespecial 55, 3) := dk_183 0 55 (dk_at dksX1_reroute_1 0 rfl rfl)
theorem dX1_reroute_25 : decode cX1_reroute 25 = .ok (.athrow, 1) := dk_191 (dk_at dksX1_reroute_1 3 rfl rfl)
theorem dX1_reroute_26 : decode cX1_reroute 26 = .ok (.aload_n 0, 1) := dk_42 (dk_at dksX1_reroute_1 4 rfl rfl)
theorem dX1_reroute_27 : decode cX1_reroute 27 = .ok (.getfield 31, 3) := dk_180 0 31 (dk_at dksX1_reroute_1 5 rfl rfl)
theorem dX1_reroute_30 : decode cX1_reroute 30 = .ok (.iload_n 1, 1) := dk_27 (dk_at dksX1_reroute_1 8 rfl rfl)
theorem dX1_reroute_31 : decode cX1_reroute 31 = .ok (.invokevirtual 178, 3) := dk_182 0 178 (dk_at dksX1_reroute_1 9 rfl rfl)
theorem dX1_reroute_34 : decode cX1_reroute 34 = .ok (.checkcast 162, 3) := dk_192 0 162 (dk_at dksX1_reroute_1 12 rfl rfl)
theorem dX1_reroute_37 : decode cX1_reroute 37 = .ok (.astore_n 3, 1) := dk_78 (dk_at dksX1_reroute_1 15 rfl rfl)
theorem dX1_reroute_38 : decode cX1_reroute 38 = .ok (.aload_n 3, 1) := dk_45 (dk_at dksX1_reroute_1 16 rfl rfl)
theorem dX1_reroute_39 : decode cX1_reroute 39 = .ok (.getfield 206, 3) := dk_180 0 206 (dk_at dksX1_reroute_1 17 rfl rfl)
theorem dX1_reroute_42 : decode cX1_reroute 42 = .ok (.istore 4, 2) := dk_54 4 (dk_at dksX1_reroute_1 20 rfl rfl)
theorem dX1_reroute_44 : decode cX1_reroute 44 = .ok (.aload_n 3, 1) := dk_45 (dk_at dksX1_reroute_1 22 rfl rfl)
theorem dX1_reroute_45 : decode cX1_reroute 45 = .ok (.iload_n 2, 1) := dk_28 (dk_at dksX1_reroute_1 23 rfl rfl)
theorem dX1_reroute_46 : decode cX1_reroute 46 = .ok (.putfield 206, 3) := dk_181 0 206 (dk_at dksX1_reroute_2 0 rfl rfl)
theorem dX1_reroute_49 : decode cX1_reroute 49 = .ok (.iload 4, 2) := dk_21 4 (dk_at dksX1_reroute_2 3 rfl rfl)
theorem dX1_reroute_51 : decode cX1_reroute 51 = .ok (.ireturn, 1) := dk_172 (dk_at dksX1_reroute_2 5 rfl rfl)
abbrev cX1_later : ByteArray := prog_1_method_15_code
def yX1_later : MethodName := ⟨RX1, "later", "(I)I"⟩
def dkwX1_later_1 : List UInt8 := [42, 180, 0, 31, 182, 0, 174, 4, 100, 172]
abbrev dktX1_later_1 : List UInt8 := dkwX1_later_1 ++ []
def dkwX1_later_0 : List UInt8 := [42, 27, 182, 0, 155, 42, 180, 0, 31, 42, 180, 0, 31, 27, 182, 0, 158, 192, 0, 162, 182, 0, 42, 87]
abbrev dktX1_later_0 : List UInt8 := dkwX1_later_0 ++ dktX1_later_1
theorem dksX1_later_0 : cX1_later.data.toList.drop 0 = dktX1_later_0 := by decide +kernel
theorem dksX1_later_1 : cX1_later.data.toList.drop 24 = dktX1_later_1 := dk_seg dksX1_later_0 24 rfl rfl
theorem dX1_later_0 : decode cX1_later 0 = .ok (.aload_n 0, 1) := dk_42 (dk_at dksX1_later_0 0 rfl rfl)
theorem dX1_later_1 : decode cX1_later 1 = .ok (.iload_n 1, 1) := dk_27 (dk_at dksX1_later_0 1 rfl rfl)
theorem dX1_later_2 : decode cX1_later 2 = .ok (.invokevirtual 155, 3) := dk_182 0 155 (dk_at dksX1_later_0 2 rfl rfl)
theorem dX1_later_5 : decode cX1_later 5 = .ok (.aload_n 0, 1) := dk_42 (dk_at dksX1_later_0 5 rfl rfl)
theorem dX1_later_6 : decode cX1_later 6 = .ok (.getfield 31, 3) := dk_180 0 31 (dk_at dksX1_later_0 6 rfl rfl)
theorem dX1_later_9 : decode cX1_later 9 = .ok (.aload_n 0, 1) := dk_42 (dk_at dksX1_later_0 9 rfl rfl)
theorem dX1_later_10 : decode cX1_later 10 = .ok (.getfield 31, 3) := dk_180 0 31 (dk_at dksX1_later_0 10 rfl rfl)
theorem dX1_later_13 : decode cX1_later 13 = .ok (.iload_n 1, 1) := dk_27 (dk_at dksX1_later_0 13 rfl rfl)
theorem dX1_later_14 : decode cX1_later 14 = .ok (.invokevirtual 158, 3) := dk_182 0 158 (dk_at dksX1_later_0 14 rfl rfl)
theorem dX1_later_17 : decode cX1_later 17 = .ok (.checkcast 162, 3) := dk_192 0 162 (dk_at dksX1_later_0 17 rfl rfl)
theorem dX1_later_20 : decode cX1_later 20 = .ok (.invokevirtual 42, 3) := dk_182 0 42 (dk_at dksX1_later_0 20 rfl rfl)
theorem dX1_later_23 : decode cX1_later 23 = .ok (.pop, 1) := dk_87 (dk_at dksX1_later_0 23 rfl rfl)
theorem dX1_later_24 : decode cX1_later 24 = .ok (.aload_n 0, 1) := dk_42 (dk_at dksX1_later_1 0 rfl rfl)
theorem dX1_later_25 : decode cX1_later 25 = .ok (.getfield 31, 3) := dk_180 0 31 (dk_at dksX1_later_1 1 rfl rfl)
theorem dX1_later_28 : decode cX1_later 28 = .ok (.invokevirtual 174, 3) := dk_182 0 174 (dk_at dksX1_later_1 4 rfl rfl)
theorem dX1_later_31 : decode cX1_later 31 = .ok (.iconst 1, 1) := dk_4 (dk_at dksX1_later_1 7 rfl rfl)
theorem dX1_later_32 : decode cX1_later 32 = .ok (.isub, 1) := dk_100 (dk_at dksX1_later_1 8 rfl rfl)
theorem dX1_later_33 : decode cX1_later 33 = .ok (.ireturn, 1) := dk_172 (dk_at dksX1_later_1 9 rfl rfl)
abbrev cX1_letter : ByteArray := prog_1_method_18_code
def yX1_letter : MethodName := ⟨RX1, "letter", "(II)I"⟩
def dkwX1_letter_1 : List UInt8 := [191, 42, 180, 0, 31, 27, 182, 0, 178, 192, 0, 162, 28, 182, 0, 211, 172]
abbrev dktX1_letter_1 : List UInt8 := dkwX1_letter_1 ++ []
def dkwX1_letter_0 : List UInt8 := [42, 27, 182, 0, 155, 28, 155, 0, 9, 28, 16, 8, 164, 0, 13, 187, 0, 51, 89, 18, 209, 183, 0, 55]
abbrev dktX1_letter_0 : List UInt8 := dkwX1_letter_0 ++ dktX1_letter_1
theorem dksX1_letter_0 : cX1_letter.data.toList.drop 0 = dktX1_letter_0 := by decide +kernel
theorem dksX1_letter_1 : cX1_letter.data.toList.drop 24 = dktX1_letter_1 := dk_seg dksX1_letter_0 24 rfl rfl
theorem dX1_letter_0 : decode cX1_letter 0 = .ok (.aload_n 0, 1) := dk_42 (dk_at dksX1_letter_0 0 rfl rfl)
theorem dX1_letter_1 : decode cX1_letter 1 = .ok (.iload_n 1, 1) := dk_27 (dk_at dksX1_letter_0 1 rfl rfl)
theorem dX1_letter_2 : decode cX1_letter 2 = .ok (.invokevirtual 155, 3) := dk_182 0 155 (dk_at dksX1_letter_0 2 rfl rfl)
theorem dX1_letter_5 : decode cX1_letter 5 = .ok (.iload_n 2, 1) := dk_28 (dk_at dksX1_letter_0 5 rfl rfl)
theorem dX1_letter_6 : decode cX1_letter 6 = .ok (.ifCond .lt 9, 3) := dk_155 0 9 (dk_at dksX1_letter_0 6 rfl rfl)
theorem dX1_letter_9 : decode cX1_letter 9 = .ok (.iload_n 2, 1) := dk_28 (dk_at dksX1_letter_0 9 rfl rfl)
theorem dX1_letter_10 : decode cX1_letter 10 = .ok (.bipush 8, 2) := dk_16 8 (dk_at dksX1_letter_0 10 rfl rfl)
theorem dX1_letter_12 : decode cX1_letter 12 = .ok (.if_icmp .le 13, 3) := dk_164 0 13 (dk_at dksX1_letter_0 12 rfl rfl)
theorem dX1_letter_15 : decode cX1_letter 15 = .ok (.new 51, 3) := dk_187 0 51 (dk_at dksX1_letter_0 15 rfl rfl)
theorem dX1_letter_18 : decode cX1_letter 18 = .ok (.dup, 1) := dk_89 (dk_at dksX1_letter_0 18 rfl rfl)
theorem dX1_letter_19 : decode cX1_letter 19 = .ok (.ldc 209, 2) := dk_18 209 (dk_at dksX1_letter_0 19 rfl rfl)
theorem dX1_letter_21 : decode cX1_letter 21 = .ok (.invokespecial 55, 3) := dk_183 0 55 (dk_at dksX1_letter_0 21 rfl rfl)
theorem dX1_letter_24 : decode cX1_letter 24 = .ok (.athrow, 1) := dk_191 (dk_at dksX1_letter_1 0 rfl rfl)
theorem dX1_letter_25 : decode cX1_letter 25 = .ok (.aload_n 0, 1) := dk_42 (dk_at dksX1_letter_1 1 rfl rfl)
theorem dX1_letter_26 : decode cX1_letter 26 = .ok (.getfield 31, 3) := dk_180 0 31 (dk_at dksX1_letter_1 2 rfl rfl)
theorem dX1_letter_29 : decode cX1_letter 29 = .ok (.iload_n 1, 1) := dk_27 (dk_at dksX1_letter_1 5 rfl rfl)
theorem dX1_letter_30 : decode cX1_letter 30 = .ok (.invokevirtual 178, 3) := dk_182 0 178 (dk_at dksX1_letter_1 6 rfl rfl)
theorem dX1_letter_33 : decode cX1_letter 33 = .ok (.checkcast 162, 3) := dk_192 0 162 (dk_at dksX1_letter_1 9 rfl rfl)
theorem dX1_letter_36 : decode cX1_letter 36 = .ok (.iload_n 2, 1) := dk_28 (dk_at dksX1_letter_1 12 rfl rfl)
theorem dX1_letter_37 : decode cX1_letter 37 = .ok (.invokevirtual 211, 3) := dk_182 0 211 (dk_at dksX1_letter_1 13 rfl rfl)
theorem dX1_letter_40 : decode cX1_letter 40 = .ok (.ireturn, 1) := dk_172 (dk_at dksX1_letter_1 16 rfl rfl)
abbrev cX1_isTurned : ByteArray := prog_1_method_19_code
def yX1_isTurned : MethodName := ⟨RX1, "isTurned", "(I)Z"⟩
def dkwX1_isTurned_0 : List UInt8 := [42, 27, 182, 0, 155, 42, 180, 0, 31, 27, 182, 0, 178, 192, 0, 162, 182, 0, 214, 172]
abbrev dktX1_isTurned_0 : List UInt8 := dkwX1_isTurned_0 ++ []
theorem dksX1_isTurned_0 : cX1_isTurned.data.toList.drop 0 = dktX1_isTurned_0 := by decide +kernel
theorem dX1_isTurned_0 : decode cX1_isTurned 0 = .ok (.aload_n 0, 1) := dk_42 (dk_at dksX1_isTurned_0 0 rfl rfl)
theorem dX1_isTurned_1 : decode cX1_isTurned 1 = .ok (.iload_n 1, 1) := dk_27 (dk_at dksX1_isTurned_0 1 rfl rfl)
theorem dX1_isTurned_2 : decode cX1_isTurned 2 = .ok (.invokevirtual 155, 3) := dk_182 0 155 (dk_at dksX1_isTurned_0 2 rfl rfl)
theorem dX1_isTurned_5 : decode cX1_isTurned 5 = .ok (.aload_n 0, 1) := dk_42 (dk_at dksX1_isTurned_0 5 rfl rfl)
theorem dX1_isTurned_6 : decode cX1_isTurned 6 = .ok (.getfield 31, 3) := dk_180 0 31 (dk_at dksX1_isTurned_0 6 rfl rfl)
theorem dX1_isTurned_9 : decode cX1_isTurned 9 = .ok (.iload_n 1, 1) := dk_27 (dk_at dksX1_isTurned_0 9 rfl rfl)
theorem dX1_isTurned_10 : decode cX1_isTurned 10 = .ok (.invokevirtual 178, 3) := dk_182 0 178 (dk_at dksX1_isTurned_0 10 rfl rfl)
theorem dX1_isTurned_13 : decode cX1_isTurned 13 = .ok (.checkcast 162, 3) := dk_192 0 162 (dk_at dksX1_isTurned_0 13 rfl rfl)
theorem dX1_isTurned_16 : decode cX1_isTurned 16 = .ok (.invokevirtual 214, 3) := dk_182 0 214 (dk_at dksX1_isTurned_0 16 rfl rfl)
theorem dX1_isTurned_19 : decode cX1_isTurned 19 = .ok (.ireturn, 1) := dk_172 (dk_at dksX1_isTurned_0 19 rfl rfl)
abbrev cX1_address : ByteArray := prog_1_method_20_code
def yX1_address : MethodName := ⟨RX1, "address", "(I)I"⟩
def dkwX1_address_0 : List UInt8 := [27, 184, 0, 68, 42, 180, 0, 7, 27, 46, 172]
abbrev dktX1_address_0 : List UInt8 := dkwX1_address_0 ++ []
theorem dksX1_address_0 : cX1_address.data.toList.drop 0 = dktX1_address_0 := by decide +kernel
theorem dX1_address_0 : decode cX1_address 0 = .ok (.iload_n 1, 1) := dk_27 (dk_at dksX1_address_0 0 rfl rfl)
theorem dX1_address_1 : decode cX1_address 1 = .ok (.invokestatic 68, 3) := dk_184 0 68 (dk_at dksX1_address_0 1 rfl rfl)
theorem dX1_address_4 : decode cX1_address 4 = .ok (.aload_n 0, 1) := dk_42 (dk_at dksX1_address_0 4 rfl rfl)
theorem dX1_address_5 : decode cX1_address 5 = .ok (.getfield 7, 3) := dk_180 0 7 (dk_at dksX1_address_0 5 rfl rfl)
theorem dX1_address_8 : decode cX1_address 8 = .ok (.iload_n 1, 1) := dk_27 (dk_at dksX1_address_0 8 rfl rfl)
theorem dX1_address_9 : decode cX1_address 9 = .ok (.iaload, 1) := dk_46 (dk_at dksX1_address_0 9 rfl rfl)
theorem dX1_address_10 : decode cX1_address 10 = .ok (.ireturn, 1) := dk_172 (dk_at dksX1_address_0 10 rfl rfl)
abbrev cX1_known : ByteArray := prog_1_method_21_code
def yX1_known : MethodName := ⟨RX1, "known", "(II)I"⟩
def dkwX1_known_0 : List UInt8 := [27, 28, 184, 0, 141, 42, 180, 0, 25, 27, 50, 28, 50, 180, 0, 218, 172]
abbrev dktX1_known_0 : List UInt8 := dkwX1_known_0 ++ []
theorem dksX1_known_0 : cX1_known.data.toList.drop 0 = dktX1_known_0 := by decide +kernel
theorem dX1_known_0 : decode cX1_known 0 = .ok (.iload_n 1, 1) := dk_27 (dk_at dksX1_known_0 0 rfl rfl)
theorem dX1_known_1 : decode cX1_known 1 = .ok (.iload_n 2, 1) := dk_28 (dk_at dksX1_known_0 1 rfl rfl)
theorem dX1_known_2 : decode cX1_known 2 = .ok (.invokestatic 141, 3) := dk_184 0 141 (dk_at dksX1_known_0 2 rfl rfl)
theorem dX1_known_5 : decode cX1_known 5 = .ok (.aload_n 0, 1) := dk_42 (dk_at dksX1_known_0 5 rfl rfl)
theorem dX1_known_6 : decode cX1_known 6 = .ok (.getfield 25, 3) := dk_180 0 25 (dk_at dksX1_known_0 6 rfl rfl)
theorem dX1_known_9 : decode cX1_known 9 = .ok (.iload_n 1, 1) := dk_27 (dk_at dksX1_known_0 9 rfl rfl)
theorem dX1_known_10 : decode cX1_known 10 = .ok (.aaload, 1) := dk_50 (dk_at dksX1_known_0 10 rfl rfl)
theorem dX1_known_11 : decode cX1_known 11 = .ok (.iload_n 2, 1) := dk_28 (dk_at dksX1_known_0 11 rfl rfl)
theorem dX1_known_12 : decode cX1_known 12 = .ok (.aaload, 1) := dk_50 (dk_at dksX1_known_0 12 rfl rfl)
theorem dX1_known_13 : decode cX1_known 13 = .ok (.getfield 218, 3) := dk_180 0 218 (dk_at dksX1_known_0 13 rfl rfl)
theorem dX1_known_16 : decode cX1_known 16 = .ok (.ireturn, 1) := dk_172 (dk_at dksX1_known_0 16 rfl rfl)
abbrev cX1_route : ByteArray := prog_1_method_22_code
def yX1_route : MethodName := ⟨RX1, "route", "(II)I"⟩
def dkwX1_route_1 : List UInt8 := [191, 42, 180, 0, 19, 27, 50, 28, 182, 0, 101, 172]
abbrev dktX1_route_1 : List UInt8 := dkwX1_route_1 ++ []
def dkwX1_route_0 : List UInt8 := [27, 184, 0, 68, 28, 155, 0, 10, 28, 17, 0, 255, 164, 0, 13, 187, 0, 51, 89, 18, 221, 183, 0, 55]
abbrev dktX1_route_0 : List UInt8 := dkwX1_route_0 ++ dktX1_route_1
theorem dksX1_route_0 : cX1_route.data.toList.drop 0 = dktX1_route_0 := by decide +kernel
theorem dksX1_route_1 : cX1_route.data.toList.drop 24 = dktX1_route_1 := dk_seg dksX1_route_0 24 rfl rfl
theorem dX1_route_0 : decode cX1_route 0 = .ok (.iload_n 1, 1) := dk_27 (dk_at dksX1_route_0 0 rfl rfl)
theorem dX1_route_1 : decode cX1_route 1 = .ok (.invokestatic 68, 3) := dk_184 0 68 (dk_at dksX1_route_0 1 rfl rfl)
theorem dX1_route_4 : decode cX1_route 4 = .ok (.iload_n 2, 1) := dk_28 (dk_at dksX1_route_0 4 rfl rfl)
theorem dX1_route_5 : decode cX1_route 5 = .ok (.ifCond .lt 10, 3) := dk_155 0 10 (dk_at dksX1_route_0 5 rfl rfl)
theorem dX1_route_8 : decode cX1_route 8 = .ok (.iload_n 2, 1) := dk_28 (dk_at dksX1_route_0 8 rfl rfl)
theorem dX1_route_9 : decode cX1_route 9 = .ok (.sipush 255, 3) := dk_17 0 255 (dk_at dksX1_route_0 9 rfl rfl)
theorem dX1_route_12 : decode cX1_route 12 = .ok (.if_icmp .le 13, 3) := dk_164 0 13 (dk_at dksX1_route_0 12 rfl rfl)
theorem dX1_route_15 : decode cX1_route 15 = .ok (.new 51, 3) := dk_187 0 51 (dk_at dksX1_route_0 15 rfl rfl)
theorem dX1_route_18 : decode cX1_route 18 = .ok (.dup, 1) := dk_89 (dk_at dksX1_route_0 18 rfl rfl)
theorem dX1_route_19 : decode cX1_route 19 = .ok (.ldc 221, 2) := dk_18 221 (dk_at dksX1_route_0 19 rfl rfl)
theorem dX1_route_21 : decode cX1_route 21 = .ok (.invokespecial 55, 3) := dk_183 0 55 (dk_at dksX1_route_0 21 rfl rfl)
theorem dX1_route_24 : decode cX1_route 24 = .ok (.athrow, 1) := dk_191 (dk_at dksX1_route_1 0 rfl rfl)
theorem dX1_route_25 : decode cX1_route 25 = .ok (.aload_n 0, 1) := dk_42 (dk_at dksX1_route_1 1 rfl rfl)
theorem dX1_route_26 : decode cX1_route 26 = .ok (.getfield 19, 3) := dk_180 0 19 (dk_at dksX1_route_1 2 rfl rfl)
theorem dX1_route_29 : decode cX1_route 29 = .ok (.iload_n 1, 1) := dk_27 (dk_at dksX1_route_1 5 rfl rfl)
theorem dX1_route_30 : decode cX1_route 30 = .ok (.aaload, 1) := dk_50 (dk_at dksX1_route_1 6 rfl rfl)
theorem dX1_route_31 : decode cX1_route 31 = .ok (.iload_n 2, 1) := dk_28 (dk_at dksX1_route_1 7 rfl rfl)
theorem dX1_route_32 : decode cX1_route 32 = .ok (.invokevirtual 101, 3) := dk_182 0 101 (dk_at dksX1_route_1 8 rfl rfl)
theorem dX1_route_35 : decode cX1_route 35 = .ok (.ireturn, 1) := dk_172 (dk_at dksX1_route_1 11 rfl rfl)
abbrev cX1_session : ByteArray := prog_1_method_23_code
def yX1_session : MethodName := ⟨RX1, "session", "(IIII)I"⟩
def dkwX1_session_6 : List UInt8 := [172, 25, 5, 180, 0, 116, 153, 0, 7, 4, 167, 0, 4, 3, 172]
abbrev dktX1_session_6 : List UInt8 := dkwX1_session_6 ++ []
def dkwX1_session_5 : List UInt8 := [172, 25, 5, 180, 0, 232, 172, 25, 5, 180, 0, 235, 172, 25, 5, 180, 0, 238, 172, 25, 5, 180, 0, 241]
abbrev dktX1_session_5 : List UInt8 := dkwX1_session_5 ++ dktX1_session_6
def dkwX1_session_4 : List UInt8 := [25, 5, 180, 0, 228, 172, 25, 5, 180, 0, 229, 172, 42, 25, 5, 182, 0, 122, 172, 25, 5, 180, 0, 126]
abbrev dktX1_session_4 : List UInt8 := dkwX1_session_4 ++ dktX1_session_5
def dkwX1_session_3 : List UInt8 := [170, 0, 0, 0, 94, 0, 0, 0, 0, 0, 0, 0, 7, 0, 0, 0, 45, 0, 0, 0, 51, 0, 0, 0, 57, 0, 0, 0, 64, 0, 0, 0, 70, 0, 0, 0, 76, 0, 0, 0, 82, 0, 0, 0, 88]
abbrev dktX1_session_3 : List UInt8 := dkwX1_session_3 ++ dktX1_session_4
def dkwX1_session_2 : List UInt8 := [182, 0, 225, 58, 5, 25, 5, 199, 0, 13, 187, 0, 96, 89, 18, 223, 183, 0, 98, 191, 21, 4]
abbrev dktX1_session_2 : List UInt8 := dkwX1_session_2 ++ dktX1_session_3
def dkwX1_session_1 : List UInt8 := [164, 0, 13, 187, 0, 51, 89, 18, 223, 183, 0, 55, 191, 42, 180, 0, 25, 27, 50, 28, 50, 29]
abbrev dktX1_session_1 : List UInt8 := dkwX1_session_1 ++ dktX1_session_2
def dkwX1_session_0 : List UInt8 := [27, 28, 184, 0, 141, 29, 155, 0, 20, 29, 5, 163, 0, 15, 21, 4, 155, 0, 10, 21, 4, 16, 8]
abbrev dktX1_session_0 : List UInt8 := dkwX1_session_0 ++ dktX1_session_1
theorem dksX1_session_0 : cX1_session.data.toList.drop 0 = dktX1_session_0 := by decide +kernel
theorem dksX1_session_1 : cX1_session.data.toList.drop 23 = dktX1_session_1 := dk_seg dksX1_session_0 23 rfl rfl
theorem dksX1_session_2 : cX1_session.data.toList.drop 45 = dktX1_session_2 := dk_seg dksX1_session_1 22 rfl rfl
theorem dksX1_session_3 : cX1_session.data.toList.drop 67 = dktX1_session_3 := dk_seg dksX1_session_2 22 rfl rfl
theorem dksX1_session_4 : cX1_session.data.toList.drop 112 = dktX1_session_4 := dk_seg dksX1_session_3 45 rfl rfl
theorem dksX1_session_5 : cX1_session.data.toList.drop 136 = dktX1_session_5 := dk_seg dksX1_session_4 24 rfl rfl
theorem dksX1_session_6 : cX1_session.data.toList.drop 160 = dktX1_session_6 := dk_seg dksX1_session_5 24 rfl rfl
theorem dX1_session_0 : decode cX1_session 0 = .ok (.iload_n 1, 1) := dk_27 (dk_at dksX1_session_0 0 rfl rfl)
theorem dX1_session_1 : decode cX1_session 1 = .ok (.iload_n 2, 1) := dk_28 (dk_at dksX1_session_0 1 rfl rfl)
theorem dX1_session_2 : decode cX1_session 2 = .ok (.invokestatic 141, 3) := dk_184 0 141 (dk_at dksX1_session_0 2 rfl rfl)
theorem dX1_session_5 : decode cX1_session 5 = .ok (.iload_n 3, 1) := dk_29 (dk_at dksX1_session_0 5 rfl rfl)
theorem dX1_session_6 : decode cX1_session 6 = .ok (.ifCond .lt 20, 3) := dk_155 0 20 (dk_at dksX1_session_0 6 rfl rfl)
theorem dX1_session_9 : decode cX1_session 9 = .ok (.iload_n 3, 1) := dk_29 (dk_at dksX1_session_0 9 rfl rfl)
theorem dX1_session_10 : decode cX1_session 10 = .ok (.iconst 2, 1) := dk_5 (dk_at dksX1_session_0 10 rfl rfl)
theorem dX1_session_11 : decode cX1_session 11 = .ok (.if_icmp .gt 15, 3) := dk_163 0 15 (dk_at dksX1_session_0 11 rfl rfl)
theorem dX1_session_14 : decode cX1_session 14 = .ok (.iload 4, 2) := dk_21 4 (dk_at dksX1_session_0 14 rfl rfl)
theorem dX1_session_16 : decode cX1_session 16 = .ok (.ifCond .lt 10, 3) := dk_155 0 10 (dk_at dksX1_session_0 16 rfl rfl)
theorem dX1_session_19 : decode cX1_session 19 = .ok (.iload 4, 2) := dk_21 4 (dk_at dksX1_session_0 19 rfl rfl)
theorem dX1_session_21 : decode cX1_session 21 = .ok (.bipush 8, 2) := dk_16 8 (dk_at dksX1_session_0 21 rfl rfl)
theorem dX1_session_23 : decode cX1_session 23 = .ok (.if_icmp .le 13, 3) := dk_164 0 13 (dk_at dksX1_session_1 0 rfl rfl)
theorem dX1_session_26 : decode cX1_session 26 = .ok (.new 51, 3) := dk_187 0 51 (dk_at dksX1_session_1 3 rfl rfl)
theorem dX1_session_29 : decode cX1_session 29 = .ok (.dup, 1) := dk_89 (dk_at dksX1_session_1 6 rfl rfl)
theorem dX1_session_30 : decode cX1_session 30 = .ok (.ldc 223, 2) := dk_18 223 (dk_at dksX1_session_1 7 rfl rfl)
theorem dX1_session_32 : decode cX1_session 32 = .ok (.invokespecial 55, 3) := dk_183 0 55 (dk_at dksX1_session_1 9 rfl rfl)
theorem dX1_session_35 : decode cX1_session 35 = .ok (.athrow, 1) := dk_191 (dk_at dksX1_session_1 12 rfl rfl)
theorem dX1_session_36 : decode cX1_session 36 = .ok (.aload_n 0, 1) := dk_42 (dk_at dksX1_session_1 13 rfl rfl)
theorem dX1_session_37 : decode cX1_session 37 = .ok (.getfield 25, 3) := dk_180 0 25 (dk_at dksX1_session_1 14 rfl rfl)
theorem dX1_session_40 : decode cX1_session 40 = .ok (.iload_n 1, 1) := dk_27 (dk_at dksX1_session_1 17 rfl rfl)
theorem dX1_session_41 : decode cX1_session 41 = .ok (.aaload, 1) := dk_50 (dk_at dksX1_session_1 18 rfl rfl)
theorem dX1_session_42 : decode cX1_session 42 = .ok (.iload_n 2, 1) := dk_28 (dk_at dksX1_session_1 19 rfl rfl)
theorem dX1_session_43 : decode cX1_session 43 = .ok (.aaload, 1) := dk_50 (dk_at dksX1_session_1 20 rfl rfl)
theorem dX1_session_44 : decode cX1_session 44 = .ok (.iload_n 3, 1) := dk_29 (dk_at dksX1_session_1 21 rfl rfl)
theorem dX1_session_45 : decode cX1_session 45 = .ok (.invokevirtual 225, 3) := dk_182 0 225 (dk_at dksX1_session_2 0 rfl rfl)
theorem dX1_session_48 : decode cX1_session 48 = .ok (.astore 5, 2) := dk_58 5 (dk_at dksX1_session_2 3 rfl rfl)
theorem dX1_session_50 : decode cX1_session 50 = .ok (.aload 5, 2) := dk_25 5 (dk_at dksX1_session_2 5 rfl rfl)
theorem dX1_session_52 : decode cX1_session 52 = .ok (.ifnonnull 13, 3) := dk_199 0 13 (dk_at dksX1_session_2 7 rfl rfl)
theorem dX1_session_55 : decode cX1_session 55 = .ok (.new 96, 3) := dk_187 0 96 (dk_at dksX1_session_2 10 rfl rfl)
theorem dX1_session_58 : decode cX1_session 58 = .ok (.dup, 1) := dk_89 (dk_at dksX1_session_2 13 rfl rfl)
theorem dX1_session_59 : decode cX1_session 59 = .ok (.ldc 223, 2) := dk_18 223 (dk_at dksX1_session_2 14 rfl rfl)
theorem dX1_session_61 : decode cX1_session 61 = .ok (.invokespecial 98, 3) := dk_183 0 98 (dk_at dksX1_session_2 16 rfl rfl)
theorem dX1_session_64 : decode cX1_session 64 = .ok (.athrow, 1) := dk_191 (dk_at dksX1_session_2 19 rfl rfl)
theorem dX1_session_65 : decode cX1_session 65 = .ok (.iload 4, 2) := dk_21 4 (dk_at dksX1_session_2 20 rfl rfl)
theorem dX1_session_67 : decode cX1_session 67 = .ok (.tableswitch 94 0 7 #[45, 51, 57, 64, 70, 76, 82, 88], 45) := by decide +kernel
theorem dX1_session_112 : decode cX1_session 112 = .ok (.aload 5, 2) := dk_25 5 (dk_at dksX1_session_4 0 rfl rfl)
theorem dX1_session_114 : decode cX1_session 114 = .ok (.getfield 228, 3) := dk_180 0 228 (dk_at dksX1_session_4 2 rfl rfl)
theorem dX1_session_117 : decode cX1_session 117 = .ok (.ireturn, 1) := dk_172 (dk_at dksX1_session_4 5 rfl rfl)
theorem dX1_session_118 : decode cX1_session 118 = .ok (.aload 5, 2) := dk_25 5 (dk_at dksX1_session_4 6 rfl rfl)
theorem dX1_session_120 : decode cX1_session 120 = .ok (.getfield 229, 3) := dk_180 0 229 (dk_at dksX1_session_4 8 rfl rfl)
theorem dX1_session_123 : decode cX1_session 123 = .ok (.ireturn, 1) := dk_172 (dk_at dksX1_session_4 11 rfl rfl)
theorem dX1_session_124 : decode cX1_session 124 = .ok (.aload_n 0, 1) := dk_42 (dk_at dksX1_session_4 12 rfl rfl)
theorem dX1_session_125 : decode cX1_session 125 = .ok (.aload 5, 2) := dk_25 5 (dk_at dksX1_session_4 13 rfl rfl)
theorem dX1_session_127 : decode cX1_session 127 = .ok (.invokevirtual 122, 3) := dk_182 0 122 (dk_at dksX1_session_4 15 rfl rfl)
theorem dX1_session_130 : decode cX1_session 130 = .ok (.ireturn, 1) := dk_172 (dk_at dksX1_session_4 18 rfl rfl)
theorem dX1_session_131 : decode cX1_session 131 = .ok (.aload 5, 2) := dk_25 5 (dk_at dksX1_session_4 19 rfl rfl)
theorem dX1_session_133 : decode cX1_session 133 = .ok (.getfield 126, 3) := dk_180 0 126 (dk_at dksX1_session_4 21 rfl rfl)
theorem dX1_session_136 : decode cX1_session 136 = .ok (.ireturn, 1) := dk_172 (dk_at dksX1_session_5 0 rfl rfl)
theorem dX1_session_137 : decode cX1_session 137 = .ok (.aload 5, 2) := dk_25 5 (dk_at dksX1_session_5 1 rfl rfl)
theorem dX1_session_139 : decode cX1_session 139 = .ok (.getfield 232, 3) := dk_180 0 232 (dk_at dksX1_session_5 3 rfl rfl)
theorem dX1_session_142 : decode cX1_session 142 = .ok (.ireturn, 1) := dk_172 (dk_at dksX1_session_5 6 rfl rfl)
theorem dX1_session_143 : decode cX1_session 143 = .ok (.aload 5, 2) := dk_25 5 (dk_at dksX1_session_5 7 rfl rfl)
theorem dX1_session_145 : decode cX1_session 145 = .ok (.getfield 235, 3) := dk_180 0 235 (dk_at dksX1_session_5 9 rfl rfl)
theorem dX1_session_148 : decode cX1_session 148 = .ok (.ireturn, 1) := dk_172 (dk_at dksX1_session_5 12 rfl rfl)
theorem dX1_session_149 : decode cX1_session 149 = .ok (.aload 5, 2) := dk_25 5 (dk_at dksX1_session_5 13 rfl rfl)
theorem dX1_session_151 : decode cX1_session 151 = .ok (.getfield 238, 3) := dk_180 0 238 (dk_at dksX1_session_5 15 rfl rfl)
theorem dX1_session_154 : decode cX1_session 154 = .ok (.ireturn, 1) := dk_172 (dk_at dksX1_session_5 18 rfl rfl)
theorem dX1_session_155 : decode cX1_session 155 = .ok (.aload 5, 2) := dk_25 5 (dk_at dksX1_session_5 19 rfl rfl)
theorem dX1_session_157 : decode cX1_session 157 = .ok (.getfield 241, 3) := dk_180 0 241 (dk_at dksX1_session_5 21 rfl rfl)
theorem dX1_session_160 : decode cX1_session 160 = .ok (.ireturn, 1) := dk_172 (dk_at dksX1_session_6 0 rfl rfl)
theorem dX1_session_161 : decode cX1_session 161 = .ok (.aload 5, 2) := dk_25 5 (dk_at dksX1_session_6 1 rfl rfl)
theorem dX1_session_163 : decode cX1_session 163 = .ok (.getfield 116, 3) := dk_180 0 116 (dk_at dksX1_session_6 3 rfl rfl)
theorem dX1_session_166 : decode cX1_session 166 = .ok (.ifCond .eq 7, 3) := dk_153 0 7 (dk_at dksX1_session_6 6 rfl rfl)
theorem dX1_session_169 : decode cX1_session 169 = .ok (.iconst 1, 1) := dk_4 (dk_at dksX1_session_6 9 rfl rfl)
theorem dX1_session_170 : decode cX1_session 170 = .ok (.goto 4, 3) := dk_167 0 4 (dk_at dksX1_session_6 10 rfl rfl)
theorem dX1_session_173 : decode cX1_session 173 = .ok (.iconst 0, 1) := dk_3 (dk_at dksX1_session_6 13 rfl rfl)
theorem dX1_session_174 : decode cX1_session 174 = .ok (.ireturn, 1) := dk_172 (dk_at dksX1_session_6 14 rfl rfl)
abbrev cX1_isUsable_2 : ByteArray := prog_1_method_24_code
def yX1_isUsable_2 : MethodName := ⟨RX1, "isUsable", "(II)Z"⟩
def dkwX1_isUsable_2_0 : List UInt8 := [27, 28, 184, 0, 141, 42, 42, 180, 0, 25, 27, 50, 28, 50, 180, 0, 104, 182, 0, 108, 172]
abbrev dktX1_isUsable_2_0 : List UInt8 := dkwX1_isUsable_2_0 ++ []
theorem dksX1_isUsable_2_0 : cX1_isUsable_2.data.toList.drop 0 = dktX1_isUsable_2_0 := by decide +kernel
theorem dX1_isUsable_2_0 : decode cX1_isUsable_2 0 = .ok (.iload_n 1, 1) := dk_27 (dk_at dksX1_isUsable_2_0 0 rfl rfl)
theorem dX1_isUsable_2_1 : decode cX1_isUsable_2 1 = .ok (.iload_n 2, 1) := dk_28 (dk_at dksX1_isUsable_2_0 1 rfl rfl)
theorem dX1_isUsable_2_2 : decode cX1_isUsable_2 2 = .ok (.invokestatic 141, 3) := dk_184 0 141 (dk_at dksX1_isUsable_2_0 2 rfl rfl)
theorem dX1_isUsable_2_5 : decode cX1_isUsable_2 5 = .ok (.aload_n 0, 1) := dk_42 (dk_at dksX1_isUsable_2_0 5 rfl rfl)
theorem dX1_isUsable_2_6 : decode cX1_isUsable_2 6 = .ok (.aload_n 0, 1) := dk_42 (dk_at dksX1_isUsable_2_0 6 rfl rfl)
theorem dX1_isUsable_2_7 : decode cX1_isUsable_2 7 = .ok (.getfield 25, 3) := dk_180 0 25 (dk_at dksX1_isUsable_2_0 7 rfl rfl)
theorem dX1_isUsable_2_10 : decode cX1_isUsable_2 10 = .ok (.iload_n 1, 1) := dk_27 (dk_at dksX1_isUsable_2_0 10 rfl rfl)
theorem dX1_isUsable_2_11 : decode cX1_isUsable_2 11 = .ok (.aaload, 1) := dk_50 (dk_at dksX1_isUsable_2_0 11 rfl rfl)
theorem dX1_isUsable_2_12 : decode cX1_isUsable_2 12 = .ok (.iload_n 2, 1) := dk_28 (dk_at dksX1_isUsable_2_0 12 rfl rfl)
theorem dX1_isUsable_2_13 : decode cX1_isUsable_2 13 = .ok (.aaload, 1) := dk_50 (dk_at dksX1_isUsable_2_0 13 rfl rfl)
theorem dX1_isUsable_2_14 : decode cX1_isUsable_2 14 = .ok (.getfield 104, 3) := dk_180 0 104 (dk_at dksX1_isUsable_2_0 14 rfl rfl)
theorem dX1_isUsable_2_17 : decode cX1_isUsable_2 17 = .ok (.invokevirtual 108, 3) := dk_182 0 108 (dk_at dksX1_isUsable_2_0 17 rfl rfl)
theorem dX1_isUsable_2_20 : decode cX1_isUsable_2 20 = .ok (.ireturn, 1) := dk_172 (dk_at dksX1_isUsable_2_0 20 rfl rfl)
abbrev cX1_flight : ByteArray := prog_1_method_25_code
def yX1_flight : MethodName := ⟨RX1, "flight", "(II)I"⟩
def dkwX1_flight_1 : List UInt8 := [167, 0, 7, 45, 180, 0, 150, 172]
abbrev dktX1_flight_1 : List UInt8 := dkwX1_flight_1 ++ []
def dkwX1_flight_0 : List UInt8 := [27, 28, 184, 0, 141, 42, 180, 0, 25, 27, 50, 28, 50, 180, 0, 146, 78, 45, 199, 0, 7, 2]
abbrev dktX1_flight_0 : List UInt8 := dkwX1_flight_0 ++ dktX1_flight_1
theorem dksX1_flight_0 : cX1_flight.data.toList.drop 0 = dktX1_flight_0 := by decide +kernel
theorem dksX1_flight_1 : cX1_flight.data.toList.drop 22 = dktX1_flight_1 := dk_seg dksX1_flight_0 22 rfl rfl
theorem dX1_flight_0 : decode cX1_flight 0 = .ok (.iload_n 1, 1) := dk_27 (dk_at dksX1_flight_0 0 rfl rfl)
theorem dX1_flight_1 : decode cX1_flight 1 = .ok (.iload_n 2, 1) := dk_28 (dk_at dksX1_flight_0 1 rfl rfl)
theorem dX1_flight_2 : decode cX1_flight 2 = .ok (.invokestatic 141, 3) := dk_184 0 141 (dk_at dksX1_flight_0 2 rfl rfl)
theorem dX1_flight_5 : decode cX1_flight 5 = .ok (.aload_n 0, 1) := dk_42 (dk_at dksX1_flight_0 5 rfl rfl)
theorem dX1_flight_6 : decode cX1_flight 6 = .ok (.getfield 25, 3) := dk_180 0 25 (dk_at dksX1_flight_0 6 rfl rfl)
theorem dX1_flight_9 : decode cX1_flight 9 = .ok (.iload_n 1, 1) := dk_27 (dk_at dksX1_flight_0 9 rfl rfl)
theorem dX1_flight_10 : decode cX1_flight 10 = .ok (.aaload, 1) := dk_50 (dk_at dksX1_flight_0 10 rfl rfl)
theorem dX1_flight_11 : decode cX1_flight 11 = .ok (.iload_n 2, 1) := dk_28 (dk_at dksX1_flight_0 11 rfl rfl)
theorem dX1_flight_12 : decode cX1_flight 12 = .ok (.aaload, 1) := dk_50 (dk_at dksX1_flight_0 12 rfl rfl)
theorem dX1_flight_13 : decode cX1_flight 13 = .ok (.getfield 146, 3) := dk_180 0 146 (dk_at dksX1_flight_0 13 rfl rfl)
theorem dX1_flight_16 : decode cX1_flight 16 = .ok (.astore_n 3, 1) := dk_78 (dk_at dksX1_flight_0 16 rfl rfl)
theorem dX1_flight_17 : decode cX1_flight 17 = .ok (.aload_n 3, 1) := dk_45 (dk_at dksX1_flight_0 17 rfl rfl)
theorem dX1_flight_18 : decode cX1_flight 18 = .ok (.ifnonnull 7, 3) := dk_199 0 7 (dk_at dksX1_flight_0 18 rfl rfl)
theorem dX1_flight_21 : decode cX1_flight 21 = .ok (.iconst (-1), 1) := dk_2 (dk_at dksX1_flight_0 21 rfl rfl)
theorem dX1_flight_22 : decode cX1_flight 22 = .ok (.goto 7, 3) := dk_167 0 7 (dk_at dksX1_flight_1 0 rfl rfl)
theorem dX1_flight_25 : decode cX1_flight 25 = .ok (.aload_n 3, 1) := dk_45 (dk_at dksX1_flight_1 3 rfl rfl)
theorem dX1_flight_26 : decode cX1_flight 26 = .ok (.getfield 150, 3) := dk_180 0 150 (dk_at dksX1_flight_1 4 rfl rfl)
theorem dX1_flight_29 : decode cX1_flight 29 = .ok (.ireturn, 1) := dk_172 (dk_at dksX1_flight_1 7 rfl rfl)
abbrev cX1_waiting : ByteArray := prog_1_method_26_code
def yX1_waiting : MethodName := ⟨RX1, "waiting", "(II)I"⟩
def dkwX1_waiting_0 : List UInt8 := [27, 28, 184, 0, 141, 42, 180, 0, 25, 27, 50, 28, 50, 180, 0, 244, 172]
abbrev dktX1_waiting_0 : List UInt8 := dkwX1_waiting_0 ++ []
theorem dksX1_waiting_0 : cX1_waiting.data.toList.drop 0 = dktX1_waiting_0 := by decide +kernel
theorem dX1_waiting_0 : decode cX1_waiting 0 = .ok (.iload_n 1, 1) := dk_27 (dk_at dksX1_waiting_0 0 rfl rfl)
theorem dX1_waiting_1 : decode cX1_waiting 1 = .ok (.iload_n 2, 1) := dk_28 (dk_at dksX1_waiting_0 1 rfl rfl)
theorem dX1_waiting_2 : decode cX1_waiting 2 = .ok (.invokestatic 141, 3) := dk_184 0 141 (dk_at dksX1_waiting_0 2 rfl rfl)
theorem dX1_waiting_5 : decode cX1_waiting 5 = .ok (.aload_n 0, 1) := dk_42 (dk_at dksX1_waiting_0 5 rfl rfl)
theorem dX1_waiting_6 : decode cX1_waiting 6 = .ok (.getfield 25, 3) := dk_180 0 25 (dk_at dksX1_waiting_0 6 rfl rfl)
theorem dX1_waiting_9 : decode cX1_waiting 9 = .ok (.iload_n 1, 1) := dk_27 (dk_at dksX1_waiting_0 9 rfl rfl)
theorem dX1_waiting_10 : decode cX1_waiting 10 = .ok (.aaload, 1) := dk_50 (dk_at dksX1_waiting_0 10 rfl rfl)
theorem dX1_waiting_11 : decode cX1_waiting 11 = .ok (.iload_n 2, 1) := dk_28 (dk_at dksX1_waiting_0 11 rfl rfl)
theorem dX1_waiting_12 : decode cX1_waiting 12 = .ok (.aaload, 1) := dk_50 (dk_at dksX1_waiting_0 12 rfl rfl)
theorem dX1_waiting_13 : decode cX1_waiting 13 = .ok (.getfield 244, 3) := dk_180 0 244 (dk_at dksX1_waiting_0 13 rfl rfl)
theorem dX1_waiting_16 : decode cX1_waiting 16 = .ok (.ireturn, 1) := dk_172 (dk_at dksX1_waiting_0 16 rfl rfl)
abbrev cX1_cookie : ByteArray := prog_1_method_27_code
def yX1_cookie : MethodName := ⟨RX1, "cookie", "(II)I"⟩
def dkwX1_cookie_1 : List UInt8 := [180, 0, 250, 167, 0, 4, 2, 172]
abbrev dktX1_cookie_1 : List UInt8 := dkwX1_cookie_1 ++ []
def dkwX1_cookie_0 : List UInt8 := [27, 28, 184, 0, 141, 42, 180, 0, 25, 27, 50, 28, 50, 78, 42, 45, 182, 0, 247, 153, 0, 10, 45]
abbrev dktX1_cookie_0 : List UInt8 := dkwX1_cookie_0 ++ dktX1_cookie_1
theorem dksX1_cookie_0 : cX1_cookie.data.toList.drop 0 = dktX1_cookie_0 := by decide +kernel
theorem dksX1_cookie_1 : cX1_cookie.data.toList.drop 23 = dktX1_cookie_1 := dk_seg dksX1_cookie_0 23 rfl rfl
theorem dX1_cookie_0 : decode cX1_cookie 0 = .ok (.iload_n 1, 1) := dk_27 (dk_at dksX1_cookie_0 0 rfl rfl)
theorem dX1_cookie_1 : decode cX1_cookie 1 = .ok (.iload_n 2, 1) := dk_28 (dk_at dksX1_cookie_0 1 rfl rfl)
theorem dX1_cookie_2 : decode cX1_cookie 2 = .ok (.invokestatic 141, 3) := dk_184 0 141 (dk_at dksX1_cookie_0 2 rfl rfl)
theorem dX1_cookie_5 : decode cX1_cookie 5 = .ok (.aload_n 0, 1) := dk_42 (dk_at dksX1_cookie_0 5 rfl rfl)
theorem dX1_cookie_6 : decode cX1_cookie 6 = .ok (.getfield 25, 3) := dk_180 0 25 (dk_at dksX1_cookie_0 6 rfl rfl)
theorem dX1_cookie_9 : decode cX1_cookie 9 = .ok (.iload_n 1, 1) := dk_27 (dk_at dksX1_cookie_0 9 rfl rfl)
theorem dX1_cookie_10 : decode cX1_cookie 10 = .ok (.aaload, 1) := dk_50 (dk_at dksX1_cookie_0 10 rfl rfl)
theorem dX1_cookie_11 : decode cX1_cookie 11 = .ok (.iload_n 2, 1) := dk_28 (dk_at dksX1_cookie_0 11 rfl rfl)
theorem dX1_cookie_12 : decode cX1_cookie 12 = .ok (.aaload, 1) := dk_50 (dk_at dksX1_cookie_0 12 rfl rfl)
theorem dX1_cookie_13 : decode cX1_cookie 13 = .ok (.astore_n 3, 1) := dk_78 (dk_at dksX1_cookie_0 13 rfl rfl)
theorem dX1_cookie_14 : decode cX1_cookie 14 = .ok (.aload_n 0, 1) := dk_42 (dk_at dksX1_cookie_0 14 rfl rfl)
theorem dX1_cookie_15 : decode cX1_cookie 15 = .ok (.aload_n 3, 1) := dk_45 (dk_at dksX1_cookie_0 15 rfl rfl)
theorem dX1_cookie_16 : decode cX1_cookie 16 = .ok (.invokevirtual 247, 3) := dk_182 0 247 (dk_at dksX1_cookie_0 16 rfl rfl)
theorem dX1_cookie_19 : decode cX1_cookie 19 = .ok (.ifCond .eq 10, 3) := dk_153 0 10 (dk_at dksX1_cookie_0 19 rfl rfl)
theorem dX1_cookie_22 : decode cX1_cookie 22 = .ok (.aload_n 3, 1) := dk_45 (dk_at dksX1_cookie_0 22 rfl rfl)
theorem dX1_cookie_23 : decode cX1_cookie 23 = .ok (.getfield 250, 3) := dk_180 0 250 (dk_at dksX1_cookie_1 0 rfl rfl)
theorem dX1_cookie_26 : decode cX1_cookie 26 = .ok (.goto 4, 3) := dk_167 0 4 (dk_at dksX1_cookie_1 3 rfl rfl)
theorem dX1_cookie_29 : decode cX1_cookie 29 = .ok (.iconst (-1), 1) := dk_2 (dk_at dksX1_cookie_1 6 rfl rfl)
theorem dX1_cookie_30 : decode cX1_cookie 30 = .ok (.ireturn, 1) := dk_172 (dk_at dksX1_cookie_1 7 rfl rfl)
abbrev cX1_stamp : ByteArray := prog_1_method_28_code
def yX1_stamp : MethodName := ⟨RX1, "stamp", "(IIZ)I"⟩
def dkwX1_stamp_1 : List UInt8 := [167, 0, 8, 25, 4, 180, 1, 0, 172]
abbrev dktX1_stamp_1 : List UInt8 := dkwX1_stamp_1 ++ []
def dkwX1_stamp_0 : List UInt8 := [27, 28, 184, 0, 141, 42, 180, 0, 25, 27, 50, 28, 50, 58, 4, 29, 153, 0, 11, 25, 4, 180, 0, 253]
abbrev dktX1_stamp_0 : List UInt8 := dkwX1_stamp_0 ++ dktX1_stamp_1
theorem dksX1_stamp_0 : cX1_stamp.data.toList.drop 0 = dktX1_stamp_0 := by decide +kernel
theorem dksX1_stamp_1 : cX1_stamp.data.toList.drop 24 = dktX1_stamp_1 := dk_seg dksX1_stamp_0 24 rfl rfl
theorem dX1_stamp_0 : decode cX1_stamp 0 = .ok (.iload_n 1, 1) := dk_27 (dk_at dksX1_stamp_0 0 rfl rfl)
theorem dX1_stamp_1 : decode cX1_stamp 1 = .ok (.iload_n 2, 1) := dk_28 (dk_at dksX1_stamp_0 1 rfl rfl)
theorem dX1_stamp_2 : decode cX1_stamp 2 = .ok (.invokestatic 141, 3) := dk_184 0 141 (dk_at dksX1_stamp_0 2 rfl rfl)
theorem dX1_stamp_5 : decode cX1_stamp 5 = .ok (.aload_n 0, 1) := dk_42 (dk_at dksX1_stamp_0 5 rfl rfl)
theorem dX1_stamp_6 : decode cX1_stamp 6 = .ok (.getfield 25, 3) := dk_180 0 25 (dk_at dksX1_stamp_0 6 rfl rfl)
theorem dX1_stamp_9 : decode cX1_stamp 9 = .ok (.iload_n 1, 1) := dk_27 (dk_at dksX1_stamp_0 9 rfl rfl)
theorem dX1_stamp_10 : decode cX1_stamp 10 = .ok (.aaload, 1) := dk_50 (dk_at dksX1_stamp_0 10 rfl rfl)
theorem dX1_stamp_11 : decode cX1_stamp 11 = .ok (.iload_n 2, 1) := dk_28 (dk_at dksX1_stamp_0 11 rfl rfl)
theorem dX1_stamp_12 : decode cX1_stamp 12 = .ok (.aaload, 1) := dk_50 (dk_at dksX1_stamp_0 12 rfl rfl)
theorem dX1_stamp_13 : decode cX1_stamp 13 = .ok (.astore 4, 2) := dk_58 4 (dk_at dksX1_stamp_0 13 rfl rfl)
theorem dX1_stamp_15 : decode cX1_stamp 15 = .ok (.iload_n 3, 1) := dk_29 (dk_at dksX1_stamp_0 15 rfl rfl)
theorem dX1_stamp_16 : decode cX1_stamp 16 = .ok (.ifCond .eq 11, 3) := dk_153 0 11 (dk_at dksX1_stamp_0 16 rfl rfl)
theorem dX1_stamp_19 : decode cX1_stamp 19 = .ok (.aload 4, 2) := dk_25 4 (dk_at dksX1_stamp_0 19 rfl rfl)
theorem dX1_stamp_21 : decode cX1_stamp 21 = .ok (.getfield 253, 3) := dk_180 0 253 (dk_at dksX1_stamp_0 21 rfl rfl)
theorem dX1_stamp_24 : decode cX1_stamp 24 = .ok (.goto 8, 3) := dk_167 0 8 (dk_at dksX1_stamp_1 0 rfl rfl)
theorem dX1_stamp_27 : decode cX1_stamp 27 = .ok (.aload 4, 2) := dk_25 4 (dk_at dksX1_stamp_1 3 rfl rfl)
theorem dX1_stamp_29 : decode cX1_stamp 29 = .ok (.getfield 256, 3) := dk_180 1 0 (dk_at dksX1_stamp_1 5 rfl rfl)
theorem dX1_stamp_32 : decode cX1_stamp 32 = .ok (.ireturn, 1) := dk_172 (dk_at dksX1_stamp_1 8 rfl rfl)
abbrev cX1_outs : ByteArray := prog_1_method_29_code
def yX1_outs : MethodName := ⟨RX1, "outs", "(I)I"⟩
def dkwX1_outs_0 : List UInt8 := [27, 184, 0, 68, 42, 180, 0, 35, 27, 182, 0, 178, 192, 0, 28, 182, 0, 174, 172]
abbrev dktX1_outs_0 : List UInt8 := dkwX1_outs_0 ++ []
theorem dksX1_outs_0 : cX1_outs.data.toList.drop 0 = dktX1_outs_0 := by decide +kernel
theorem dX1_outs_0 : decode cX1_outs 0 = .ok (.iload_n 1, 1) := dk_27 (dk_at dksX1_outs_0 0 rfl rfl)
theorem dX1_outs_1 : decode cX1_outs 1 = .ok (.invokestatic 68, 3) := dk_184 0 68 (dk_at dksX1_outs_0 1 rfl rfl)
theorem dX1_outs_4 : decode cX1_outs 4 = .ok (.aload_n 0, 1) := dk_42 (dk_at dksX1_outs_0 4 rfl rfl)
theorem dX1_outs_5 : decode cX1_outs 5 = .ok (.getfield 35, 3) := dk_180 0 35 (dk_at dksX1_outs_0 5 rfl rfl)
theorem dX1_outs_8 : decode cX1_outs 8 = .ok (.iload_n 1, 1) := dk_27 (dk_at dksX1_outs_0 8 rfl rfl)
theorem dX1_outs_9 : decode cX1_outs 9 = .ok (.invokevirtual 178, 3) := dk_182 0 178 (dk_at dksX1_outs_0 9 rfl rfl)
theorem dX1_outs_12 : decode cX1_outs 12 = .ok (.checkcast 28, 3) := dk_192 0 28 (dk_at dksX1_outs_0 12 rfl rfl)
theorem dX1_outs_15 : decode cX1_outs 15 = .ok (.invokevirtual 174, 3) := dk_182 0 174 (dk_at dksX1_outs_0 15 rfl rfl)
theorem dX1_outs_18 : decode cX1_outs 18 = .ok (.ireturn, 1) := dk_172 (dk_at dksX1_outs_0 18 rfl rfl)
abbrev cX1_out : ByteArray := prog_1_method_30_code
def yX1_out : MethodName := ⟨RX1, "out", "(III)I"⟩
def dkwX1_out_3 : List UInt8 := [182, 0, 178, 192, 1, 7, 29, 46, 172]
abbrev dktX1_out_3 : List UInt8 := dkwX1_out_3 ++ []
def dkwX1_out_2 : List UInt8 := [187, 0, 51, 89, 18, 209, 183, 0, 55, 191, 42, 180, 0, 35, 27, 182, 0, 178, 192, 0, 28, 28]
abbrev dktX1_out_2 : List UInt8 := dkwX1_out_2 ++ dktX1_out_3
def dkwX1_out_1 : List UInt8 := [161, 0, 14, 187, 1, 3, 89, 19, 1, 5, 183, 1, 6, 191, 29, 155, 0, 8, 29, 6, 164, 0, 13]
abbrev dktX1_out_1 : List UInt8 := dkwX1_out_1 ++ dktX1_out_2
def dkwX1_out_0 : List UInt8 := [27, 184, 0, 68, 28, 155, 0, 21, 28, 42, 180, 0, 35, 27, 182, 0, 178, 192, 0, 28, 182, 0, 174]
abbrev dktX1_out_0 : List UInt8 := dkwX1_out_0 ++ dktX1_out_1
theorem dksX1_out_0 : cX1_out.data.toList.drop 0 = dktX1_out_0 := by decide +kernel
theorem dksX1_out_1 : cX1_out.data.toList.drop 23 = dktX1_out_1 := dk_seg dksX1_out_0 23 rfl rfl
theorem dksX1_out_2 : cX1_out.data.toList.drop 46 = dktX1_out_2 := dk_seg dksX1_out_1 23 rfl rfl
theorem dksX1_out_3 : cX1_out.data.toList.drop 68 = dktX1_out_3 := dk_seg dksX1_out_2 22 rfl rfl
theorem dX1_out_0 : decode cX1_out 0 = .ok (.iload_n 1, 1) := dk_27 (dk_at dksX1_out_0 0 rfl rfl)
theorem dX1_out_1 : decode cX1_out 1 = .ok (.invokestatic 68, 3) := dk_184 0 68 (dk_at dksX1_out_0 1 rfl rfl)
theorem dX1_out_4 : decode cX1_out 4 = .ok (.iload_n 2, 1) := dk_28 (dk_at dksX1_out_0 4 rfl rfl)
theorem dX1_out_5 : decode cX1_out 5 = .ok (.ifCond .lt 21, 3) := dk_155 0 21 (dk_at dksX1_out_0 5 rfl rfl)
theorem dX1_out_8 : decode cX1_out 8 = .ok (.iload_n 2, 1) := dk_28 (dk_at dksX1_out_0 8 rfl rfl)
theorem dX1_out_9 : decode cX1_out 9 = .ok (.aload_n 0, 1) := dk_42 (dk_at dksX1_out_0 9 rfl rfl)
theorem dX1_out_10 : decode cX1_out 10 = .ok (.getfield 35, 3) := dk_180 0 35 (dk_at dksX1_out_0 10 rfl rfl)
theorem dX1_out_13 : decode cX1_out 13 = .ok (.iload_n 1, 1) := dk_27 (dk_at dksX1_out_0 13 rfl rfl)
theorem dX1_out_14 : decode cX1_out 14 = .ok (.invokevirtual 178, 3) := dk_182 0 178 (dk_at dksX1_out_0 14 rfl rfl)
theorem dX1_out_17 : decode cX1_out 17 = .ok (.checkcast 28, 3) := dk_192 0 28 (dk_at dksX1_out_0 17 rfl rfl)
theorem dX1_out_20 : decode cX1_out 20 = .ok (.invokevirtual 174, 3) := dk_182 0 174 (dk_at dksX1_out_0 20 rfl rfl)
theorem dX1_out_23 : decode cX1_out 23 = .ok (.if_icmp .lt 14, 3) := dk_161 0 14 (dk_at dksX1_out_1 0 rfl rfl)
theorem dX1_out_26 : decode cX1_out 26 = .ok (.new 259, 3) := dk_187 1 3 (dk_at dksX1_out_1 3 rfl rfl)
theorem dX1_out_29 : decode cX1_out 29 = .ok (.dup, 1) := dk_89 (dk_at dksX1_out_1 6 rfl rfl)
theorem dX1_out_30 : decode cX1_out 30 = .ok (.ldc_w 261, 3) := dk_19 1 5 (dk_at dksX1_out_1 7 rfl rfl)
theorem dX1_out_33 : decode cX1_out 33 = .ok (.invokespecial 262, 3) := dk_183 1 6 (dk_at dksX1_out_1 10 rfl rfl)
theorem dX1_out_36 : decode cX1_out 36 = .ok (.athrow, 1) := dk_191 (dk_at dksX1_out_1 13 rfl rfl)
theorem dX1_out_37 : decode cX1_out 37 = .ok (.iload_n 3, 1) := dk_29 (dk_at dksX1_out_1 14 rfl rfl)
theorem dX1_out_38 : decode cX1_out 38 = .ok (.ifCond .lt 8, 3) := dk_155 0 8 (dk_at dksX1_out_1 15 rfl rfl)
theorem dX1_out_41 : decode cX1_out 41 = .ok (.iload_n 3, 1) := dk_29 (dk_at dksX1_out_1 18 rfl rfl)
theorem dX1_out_42 : decode cX1_out 42 = .ok (.iconst 3, 1) := dk_6 (dk_at dksX1_out_1 19 rfl rfl)
theorem dX1_out_43 : decode cX1_out 43 = .ok (.if_icmp .le 13, 3) := dk_164 0 13 (dk_at dksX1_out_1 20 rfl rfl)
theorem dX1_out_46 : decode cX1_out 46 = .ok (.new 51, 3) := dk_187 0 51 (dk_at dksX1_out_2 0 rfl rfl)
theorem dX1_out_49 : decode cX1_out 49 = .ok (.dup, 1) := dk_89 (dk_at dksX1_out_2 3 rfl rfl)
theorem dX1_out_50 : decode cX1_out 50 = .ok (.ldc 209, 2) := dk_18 209 (dk_at dksX1_out_2 4 rfl rfl)
theorem dX1_out_52 : decode cX1_out 52 = .ok (.invokespecial 55, 3) := dk_183 0 55 (dk_at dksX1_out_2 6 rfl rfl)
theorem dX1_out_55 : decode cX1_out 55 = .ok (.athrow, 1) := dk_191 (dk_at dksX1_out_2 9 rfl rfl)
theorem dX1_out_56 : decode cX1_out 56 = .ok (.aload_n 0, 1) := dk_42 (dk_at dksX1_out_2 10 rfl rfl)
theorem dX1_out_57 : decode cX1_out 57 = .ok (.getfield 35, 3) := dk_180 0 35 (dk_at dksX1_out_2 11 rfl rfl)
theorem dX1_out_60 : decode cX1_out 60 = .ok (.iload_n 1, 1) := dk_27 (dk_at dksX1_out_2 14 rfl rfl)
theorem dX1_out_61 : decode cX1_out 61 = .ok (.invokevirtual 178, 3) := dk_182 0 178 (dk_at dksX1_out_2 15 rfl rfl)
theorem dX1_out_64 : decode cX1_out 64 = .ok (.checkcast 28, 3) := dk_192 0 28 (dk_at dksX1_out_2 18 rfl rfl)
theorem dX1_out_67 : decode cX1_out 67 = .ok (.iload_n 2, 1) := dk_28 (dk_at dksX1_out_2 21 rfl rfl)
theorem dX1_out_68 : decode cX1_out 68 = .ok (.invokevirtual 178, 3) := dk_182 0 178 (dk_at dksX1_out_3 0 rfl rfl)
theorem dX1_out_71 : decode cX1_out 71 = .ok (.checkcast 263, 3) := dk_192 1 7 (dk_at dksX1_out_3 3 rfl rfl)
theorem dX1_out_74 : decode cX1_out 74 = .ok (.iload_n 3, 1) := dk_29 (dk_at dksX1_out_3 6 rfl rfl)
theorem dX1_out_75 : decode cX1_out 75 = .ok (.iaload, 1) := dk_46 (dk_at dksX1_out_3 7 rfl rfl)
theorem dX1_out_76 : decode cX1_out 76 = .ok (.ireturn, 1) := dk_172 (dk_at dksX1_out_3 8 rfl rfl)
abbrev cX1_drops : ByteArray := prog_1_method_31_code
def yX1_drops : MethodName := ⟨RX1, "drops", "(I)I"⟩
def dkwX1_drops_1 : List UInt8 := [180, 0, 38, 27, 16, 7, 96, 46, 172]
abbrev dktX1_drops_1 : List UInt8 := dkwX1_drops_1 ++ []
def dkwX1_drops_0 : List UInt8 := [27, 16, 249, 161, 0, 8, 27, 6, 164, 0, 14, 187, 0, 51, 89, 19, 1, 8, 183, 0, 55, 191, 42]
abbrev dktX1_drops_0 : List UInt8 := dkwX1_drops_0 ++ dktX1_drops_1
theorem dksX1_drops_0 : cX1_drops.data.toList.drop 0 = dktX1_drops_0 := by decide +kernel
theorem dksX1_drops_1 : cX1_drops.data.toList.drop 23 = dktX1_drops_1 := dk_seg dksX1_drops_0 23 rfl rfl
theorem dX1_drops_0 : decode cX1_drops 0 = .ok (.iload_n 1, 1) := dk_27 (dk_at dksX1_drops_0 0 rfl rfl)
theorem dX1_drops_1 : decode cX1_drops 1 = .ok (.bipush (-7), 2) := dk_16 249 (dk_at dksX1_drops_0 1 rfl rfl)
theorem dX1_drops_3 : decode cX1_drops 3 = .ok (.if_icmp .lt 8, 3) := dk_161 0 8 (dk_at dksX1_drops_0 3 rfl rfl)
theorem dX1_drops_6 : decode cX1_drops 6 = .ok (.iload_n 1, 1) := dk_27 (dk_at dksX1_drops_0 6 rfl rfl)
theorem dX1_drops_7 : decode cX1_drops 7 = .ok (.iconst 3, 1) := dk_6 (dk_at dksX1_drops_0 7 rfl rfl)
theorem dX1_drops_8 : decode cX1_drops 8 = .ok (.if_icmp .le 14, 3) := dk_164 0 14 (dk_at dksX1_drops_0 8 rfl rfl)
theorem dX1_drops_11 : decode cX1_drops 11 = .ok (.new 51, 3) := dk_187 0 51 (dk_at dksX1_drops_0 11 rfl rfl)
theorem dX1_drops_14 : decode cX1_drops 14 = .ok (.dup, 1) := dk_89 (dk_at dksX1_drops_0 14 rfl rfl)
theorem dX1_drops_15 : decode cX1_drops 15 = .ok (.ldc_w 264, 3) := dk_19 1 8 (dk_at dksX1_drops_0 15 rfl rfl)
theorem dX1_drops_18 : decode cX1_drops 18 = .ok (.invokespecial 55, 3) := dk_183 0 55 (dk_at dksX1_drops_0 18 rfl rfl)
theorem dX1_drops_21 : decode cX1_drops 21 = .ok (.athrow, 1) := dk_191 (dk_at dksX1_drops_0 21 rfl rfl)
theorem dX1_drops_22 : decode cX1_drops 22 = .ok (.aload_n 0, 1) := dk_42 (dk_at dksX1_drops_0 22 rfl rfl)
theorem dX1_drops_23 : decode cX1_drops 23 = .ok (.getfield 38, 3) := dk_180 0 38 (dk_at dksX1_drops_1 0 rfl rfl)
theorem dX1_drops_26 : decode cX1_drops 26 = .ok (.iload_n 1, 1) := dk_27 (dk_at dksX1_drops_1 3 rfl rfl)
theorem dX1_drops_27 : decode cX1_drops 27 = .ok (.bipush 7, 2) := dk_16 7 (dk_at dksX1_drops_1 4 rfl rfl)
theorem dX1_drops_29 : decode cX1_drops 29 = .ok (.iadd, 1) := dk_96 (dk_at dksX1_drops_1 6 rfl rfl)
theorem dX1_drops_30 : decode cX1_drops 30 = .ok (.iaload, 1) := dk_46 (dk_at dksX1_drops_1 7 rfl rfl)
theorem dX1_drops_31 : decode cX1_drops 31 = .ok (.ireturn, 1) := dk_172 (dk_at dksX1_drops_1 8 rfl rfl)
abbrev cX1_publicOf : ByteArray := prog_1_method_32_code
def yX1_publicOf : MethodName := ⟨RX1, "publicOf", "(I)I"⟩
def dkwX1_publicOf_1 : List UInt8 := [27, 184, 1, 13, 172]
abbrev dktX1_publicOf_1 : List UInt8 := dkwX1_publicOf_1 ++ []
def dkwX1_publicOf_0 : List UInt8 := [27, 155, 0, 10, 27, 19, 1, 10, 164, 0, 14, 187, 0, 51, 89, 19, 1, 11, 183, 0, 55, 191, 16, 7]
abbrev dktX1_publicOf_0 : List UInt8 := dkwX1_publicOf_0 ++ dktX1_publicOf_1
theorem dksX1_publicOf_0 : cX1_publicOf.data.toList.drop 0 = dktX1_publicOf_0 := by decide +kernel
theorem dksX1_publicOf_1 : cX1_publicOf.data.toList.drop 24 = dktX1_publicOf_1 := dk_seg dksX1_publicOf_0 24 rfl rfl
theorem dX1_publicOf_0 : decode cX1_publicOf 0 = .ok (.iload_n 1, 1) := dk_27 (dk_at dksX1_publicOf_0 0 rfl rfl)
theorem dX1_publicOf_1 : decode cX1_publicOf 1 = .ok (.ifCond .lt 10, 3) := dk_155 0 10 (dk_at dksX1_publicOf_0 1 rfl rfl)
theorem dX1_publicOf_4 : decode cX1_publicOf 4 = .ok (.iload_n 1, 1) := dk_27 (dk_at dksX1_publicOf_0 4 rfl rfl)
theorem dX1_publicOf_5 : decode cX1_publicOf 5 = .ok (.ldc_w 266, 3) := dk_19 1 10 (dk_at dksX1_publicOf_0 5 rfl rfl)
theorem dX1_publicOf_8 : decode cX1_publicOf 8 = .ok (.if_icmp .le 14, 3) := dk_164 0 14 (dk_at dksX1_publicOf_0 8 rfl rfl)
theorem dX1_publicOf_11 : decode cX1_publicOf 11 = .ok (.new 51, 3) := dk_187 0 51 (dk_at dksX1_publicOf_0 11 rfl rfl)
theorem dX1_publicOf_14 : decode cX1_publicOf 14 = .ok (.dup, 1) := dk_89 (dk_at dksX1_publicOf_0 14 rfl rfl)
theorem dX1_publicOf_15 : decode cX1_publicOf 15 = .ok (.ldc_w 267, 3) := dk_19 1 11 (dk_at dksX1_publicOf_0 15 rfl rfl)
theorem dX1_publicOf_18 : decode cX1_publicOf 18 = .ok (.invokespecial 55, 3) := dk_183 0 55 (dk_at dksX1_publicOf_0 18 rfl rfl)
theorem dX1_publicOf_21 : decode cX1_publicOf 21 = .ok (.athrow, 1) := dk_191 (dk_at dksX1_publicOf_0 21 rfl rfl)
theorem dX1_publicOf_22 : decode cX1_publicOf 22 = .ok (.bipush 7, 2) := dk_16 7 (dk_at dksX1_publicOf_0 22 rfl rfl)
theorem dX1_publicOf_24 : decode cX1_publicOf 24 = .ok (.iload_n 1, 1) := dk_27 (dk_at dksX1_publicOf_1 0 rfl rfl)
theorem dX1_publicOf_25 : decode cX1_publicOf 25 = .ok (.invokestatic 269, 3) := dk_184 1 13 (dk_at dksX1_publicOf_1 1 rfl rfl)
theorem dX1_publicOf_28 : decode cX1_publicOf 28 = .ok (.ireturn, 1) := dk_172 (dk_at dksX1_publicOf_1 4 rfl rfl)
abbrev cX1_shared : ByteArray := prog_1_method_33_code
def yX1_shared : MethodName := ⟨RX1, "shared", "(II)I"⟩
def dkwX1_shared_1 : List UInt8 := [187, 0, 51, 89, 19, 1, 16, 183, 0, 55, 191, 28, 27, 184, 1, 13, 172]
abbrev dktX1_shared_1 : List UInt8 := dkwX1_shared_1 ++ []
def dkwX1_shared_0 : List UInt8 := [27, 155, 0, 22, 27, 19, 1, 10, 163, 0, 15, 28, 4, 161, 0, 10, 28, 17, 7, 246, 164, 0, 14]
abbrev dktX1_shared_0 : List UInt8 := dkwX1_shared_0 ++ dktX1_shared_1
theorem dksX1_shared_0 : cX1_shared.data.toList.drop 0 = dktX1_shared_0 := by decide +kernel
theorem dksX1_shared_1 : cX1_shared.data.toList.drop 23 = dktX1_shared_1 := dk_seg dksX1_shared_0 23 rfl rfl
theorem dX1_shared_0 : decode cX1_shared 0 = .ok (.iload_n 1, 1) := dk_27 (dk_at dksX1_shared_0 0 rfl rfl)
theorem dX1_shared_1 : decode cX1_shared 1 = .ok (.ifCond .lt 22, 3) := dk_155 0 22 (dk_at dksX1_shared_0 1 rfl rfl)
theorem dX1_shared_4 : decode cX1_shared 4 = .ok (.iload_n 1, 1) := dk_27 (dk_at dksX1_shared_0 4 rfl rfl)
theorem dX1_shared_5 : decode cX1_shared 5 = .ok (.ldc_w 266, 3) := dk_19 1 10 (dk_at dksX1_shared_0 5 rfl rfl)
theorem dX1_shared_8 : decode cX1_shared 8 = .ok (.if_icmp .gt 15, 3) := dk_163 0 15 (dk_at dksX1_shared_0 8 rfl rfl)
theorem dX1_shared_11 : decode cX1_shared 11 = .ok (.iload_n 2, 1) := dk_28 (dk_at dksX1_shared_0 11 rfl rfl)
theorem dX1_shared_12 : decode cX1_shared 12 = .ok (.iconst 1, 1) := dk_4 (dk_at dksX1_shared_0 12 rfl rfl)
theorem dX1_shared_13 : decode cX1_shared 13 = .ok (.if_icmp .lt 10, 3) := dk_161 0 10 (dk_at dksX1_shared_0 13 rfl rfl)
theorem dX1_shared_16 : decode cX1_shared 16 = .ok (.iload_n 2, 1) := dk_28 (dk_at dksX1_shared_0 16 rfl rfl)
theorem dX1_shared_17 : decode cX1_shared 17 = .ok (.sipush 2038, 3) := dk_17 7 246 (dk_at dksX1_shared_0 17 rfl rfl)
theorem dX1_shared_20 : decode cX1_shared 20 = .ok (.if_icmp .le 14, 3) := dk_164 0 14 (dk_at dksX1_shared_0 20 rfl rfl)
theorem dX1_shared_23 : decode cX1_shared 23 = .ok (.new 51, 3) := dk_187 0 51 (dk_at dksX1_shared_1 0 rfl rfl)
theorem dX1_shared_26 : decode cX1_shared 26 = .ok (.dup, 1) := dk_89 (dk_at dksX1_shared_1 3 rfl rfl)
theorem dX1_shared_27 : decode cX1_shared 27 = .ok (.ldc_w 272, 3) := dk_19 1 16 (dk_at dksX1_shared_1 4 rfl rfl)
theorem dX1_shared_30 : decode cX1_shared 30 = .ok (.invokespecial 55, 3) := dk_183 0 55 (dk_at dksX1_shared_1 7 rfl rfl)
theorem dX1_shared_33 : decode cX1_shared 33 = .ok (.athrow, 1) := dk_191 (dk_at dksX1_shared_1 10 rfl rfl)
theorem dX1_shared_34 : decode cX1_shared 34 = .ok (.iload_n 2, 1) := dk_28 (dk_at dksX1_shared_1 11 rfl rfl)
theorem dX1_shared_35 : decode cX1_shared 35 = .ok (.iload_n 1, 1) := dk_27 (dk_at dksX1_shared_1 12 rfl rfl)
theorem dX1_shared_36 : decode cX1_shared 36 = .ok (.invokestatic 269, 3) := dk_184 1 13 (dk_at dksX1_shared_1 13 rfl rfl)
theorem dX1_shared_39 : decode cX1_shared 39 = .ok (.ireturn, 1) := dk_172 (dk_at dksX1_shared_1 16 rfl rfl)
abbrev cX1_seal : ByteArray := prog_1_method_34_code
def yX1_seal : MethodName := ⟨RX1, "seal", "(IIII)I"⟩
def dkwX1_seal_2 : List UInt8 := [188, 10, 89, 3, 28, 79, 89, 4, 29, 79, 89, 5, 21, 4, 79, 184, 1, 24, 172]
abbrev dktX1_seal_2 : List UInt8 := dkwX1_seal_2 ++ []
def dkwX1_seal_1 : List UInt8 := [154, 0, 11, 21, 4, 184, 1, 19, 153, 0, 14, 187, 0, 51, 89, 19, 1, 22, 183, 0, 55, 191, 27, 6]
abbrev dktX1_seal_1 : List UInt8 := dkwX1_seal_1 ++ dktX1_seal_2
def dkwX1_seal_0 : List UInt8 := [27, 4, 161, 0, 32, 27, 19, 1, 18, 163, 0, 25, 28, 184, 1, 19, 154, 0, 18, 29, 184, 1, 19]
abbrev dktX1_seal_0 : List UInt8 := dkwX1_seal_0 ++ dktX1_seal_1
theorem dksX1_seal_0 : cX1_seal.data.toList.drop 0 = dktX1_seal_0 := by decide +kernel
theorem dksX1_seal_1 : cX1_seal.data.toList.drop 23 = dktX1_seal_1 := dk_seg dksX1_seal_0 23 rfl rfl
theorem dksX1_seal_2 : cX1_seal.data.toList.drop 47 = dktX1_seal_2 := dk_seg dksX1_seal_1 24 rfl rfl
theorem dX1_seal_0 : decode cX1_seal 0 = .ok (.iload_n 1, 1) := dk_27 (dk_at dksX1_seal_0 0 rfl rfl)
theorem dX1_seal_1 : decode cX1_seal 1 = .ok (.iconst 1, 1) := dk_4 (dk_at dksX1_seal_0 1 rfl rfl)
theorem dX1_seal_2 : decode cX1_seal 2 = .ok (.if_icmp .lt 32, 3) := dk_161 0 32 (dk_at dksX1_seal_0 2 rfl rfl)
theorem dX1_seal_5 : decode cX1_seal 5 = .ok (.iload_n 1, 1) := dk_27 (dk_at dksX1_seal_0 5 rfl rfl)
theorem dX1_seal_6 : decode cX1_seal 6 = .ok (.ldc_w 274, 3) := dk_19 1 18 (dk_at dksX1_seal_0 6 rfl rfl)
theorem dX1_seal_9 : decode cX1_seal 9 = .ok (.if_icmp .gt 25, 3) := dk_163 0 25 (dk_at dksX1_seal_0 9 rfl rfl)
theorem dX1_seal_12 : decode cX1_seal 12 = .ok (.iload_n 2, 1) := dk_28 (dk_at dksX1_seal_0 12 rfl rfl)
theorem dX1_seal_13 : decode cX1_seal 13 = .ok (.invokestatic 275, 3) := dk_184 1 19 (dk_at dksX1_seal_0 13 rfl rfl)
theorem dX1_seal_16 : decode cX1_seal 16 = .ok (.ifCond .ne 18, 3) := dk_154 0 18 (dk_at dksX1_seal_0 16 rfl rfl)
theorem dX1_seal_19 : decode cX1_seal 19 = .ok (.iload_n 3, 1) := dk_29 (dk_at dksX1_seal_0 19 rfl rfl)
theorem dX1_seal_20 : decode cX1_seal 20 = .ok (.invokestatic 275, 3) := dk_184 1 19 (dk_at dksX1_seal_0 20 rfl rfl)
theorem dX1_seal_23 : decode cX1_seal 23 = .ok (.ifCond .ne 11, 3) := dk_154 0 11 (dk_at dksX1_seal_1 0 rfl rfl)
theorem dX1_seal_26 : decode cX1_seal 26 = .ok (.iload 4, 2) := dk_21 4 (dk_at dksX1_seal_1 3 rfl rfl)
theorem dX1_seal_28 : decode cX1_seal 28 = .ok (.invokestatic 275, 3) := dk_184 1 19 (dk_at dksX1_seal_1 5 rfl rfl)
theorem dX1_seal_31 : decode cX1_seal 31 = .ok (.ifCond .eq 14, 3) := dk_153 0 14 (dk_at dksX1_seal_1 8 rfl rfl)
theorem dX1_seal_34 : decode cX1_seal 34 = .ok (.new 51, 3) := dk_187 0 51 (dk_at dksX1_seal_1 11 rfl rfl)
theorem dX1_seal_37 : decode cX1_seal 37 = .ok (.dup, 1) := dk_89 (dk_at dksX1_seal_1 14 rfl rfl)
theorem dX1_seal_38 : decode cX1_seal 38 = .ok (.ldc_w 278, 3) := dk_19 1 22 (dk_at dksX1_seal_1 15 rfl rfl)
theorem dX1_seal_41 : decode cX1_seal 41 = .ok (.invokespecial 55, 3) := dk_183 0 55 (dk_at dksX1_seal_1 18 rfl rfl)
theorem dX1_seal_44 : decode cX1_seal 44 = .ok (.athrow, 1) := dk_191 (dk_at dksX1_seal_1 21 rfl rfl)
theorem dX1_seal_45 : decode cX1_seal 45 = .ok (.iload_n 1, 1) := dk_27 (dk_at dksX1_seal_1 22 rfl rfl)
theorem dX1_seal_46 : decode cX1_seal 46 = .ok (.iconst 3, 1) := dk_6 (dk_at dksX1_seal_1 23 rfl rfl)
theorem dX1_seal_47 : decode cX1_seal 47 = .ok (.newarray .int, 2) := dk_188_10 (dk_at dksX1_seal_2 0 rfl rfl)
theorem dX1_seal_49 : decode cX1_seal 49 = .ok (.dup, 1) := dk_89 (dk_at dksX1_seal_2 2 rfl rfl)
theorem dX1_seal_50 : decode cX1_seal 50 = .ok (.iconst 0, 1) := dk_3 (dk_at dksX1_seal_2 3 rfl rfl)
theorem dX1_seal_51 : decode cX1_seal 51 = .ok (.iload_n 2, 1) := dk_28 (dk_at dksX1_seal_2 4 rfl rfl)
theorem dX1_seal_52 : decode cX1_seal 52 = .ok (.iastore, 1) := dk_79 (dk_at dksX1_seal_2 5 rfl rfl)
theorem dX1_seal_53 : decode cX1_seal 53 = .ok (.dup, 1) := dk_89 (dk_at dksX1_seal_2 6 rfl rfl)
theorem dX1_seal_54 : decode cX1_seal 54 = .ok (.iconst 1, 1) := dk_4 (dk_at dksX1_seal_2 7 rfl rfl)
theorem dX1_seal_55 : decode cX1_seal 55 = .ok (.iload_n 3, 1) := dk_29 (dk_at dksX1_seal_2 8 rfl rfl)
theorem dX1_seal_56 : decode cX1_seal 56 = .ok (.iastore, 1) := dk_79 (dk_at dksX1_seal_2 9 rfl rfl)
theorem dX1_seal_57 : decode cX1_seal 57 = .ok (.dup, 1) := dk_89 (dk_at dksX1_seal_2 10 rfl rfl)
theorem dX1_seal_58 : decode cX1_seal 58 = .ok (.iconst 2, 1) := dk_5 (dk_at dksX1_seal_2 11 rfl rfl)
theorem dX1_seal_59 : decode cX1_seal 59 = .ok (.iload 4, 2) := dk_21 4 (dk_at dksX1_seal_2 12 rfl rfl)
theorem dX1_seal_61 : decode cX1_seal 61 = .ok (.iastore, 1) := dk_79 (dk_at dksX1_seal_2 14 rfl rfl)
theorem dX1_seal_62 : decode cX1_seal 62 = .ok (.invokestatic 280, 3) := dk_184 1 24 (dk_at dksX1_seal_2 15 rfl rfl)
theorem dX1_seal_65 : decode cX1_seal 65 = .ok (.ireturn, 1) := dk_172 (dk_at dksX1_seal_2 18 rfl rfl)
abbrev cX1_isOut : ByteArray := prog_1_method_61_code
def yX1_isOut : MethodName := ⟨RX1, "isOut", "(I)Z"⟩
def dkwX1_isOut_0 : List UInt8 := [26, 2, 161, 0, 10, 26, 17, 39, 15, 164, 0, 7, 4, 167, 0, 4, 3, 172]
abbrev dktX1_isOut_0 : List UInt8 := dkwX1_isOut_0 ++ []
theorem dksX1_isOut_0 : cX1_isOut.data.toList.drop 0 = dktX1_isOut_0 := by decide +kernel
theorem dX1_isOut_0 : decode cX1_isOut 0 = .ok (.iload_n 0, 1) := dk_26 (dk_at dksX1_isOut_0 0 rfl rfl)
theorem dX1_isOut_1 : decode cX1_isOut 1 = .ok (.iconst (-1), 1) := dk_2 (dk_at dksX1_isOut_0 1 rfl rfl)
theorem dX1_isOut_2 : decode cX1_isOut 2 = .ok (.if_icmp .lt 10, 3) := dk_161 0 10 (dk_at dksX1_isOut_0 2 rfl rfl)
theorem dX1_isOut_5 : decode cX1_isOut 5 = .ok (.iload_n 0, 1) := dk_26 (dk_at dksX1_isOut_0 5 rfl rfl)
theorem dX1_isOut_6 : decode cX1_isOut 6 = .ok (.sipush 9999, 3) := dk_17 39 15 (dk_at dksX1_isOut_0 6 rfl rfl)
theorem dX1_isOut_9 : decode cX1_isOut 9 = .ok (.if_icmp .le 7, 3) := dk_164 0 7 (dk_at dksX1_isOut_0 9 rfl rfl)
theorem dX1_isOut_12 : decode cX1_isOut 12 = .ok (.iconst 1, 1) := dk_4 (dk_at dksX1_isOut_0 12 rfl rfl)
theorem dX1_isOut_13 : decode cX1_isOut 13 = .ok (.goto 4, 3) := dk_167 0 4 (dk_at dksX1_isOut_0 13 rfl rfl)
theorem dX1_isOut_16 : decode cX1_isOut 16 = .ok (.iconst 0, 1) := dk_3 (dk_at dksX1_isOut_0 16 rfl rfl)
theorem dX1_isOut_17 : decode cX1_isOut 17 = .ok (.ireturn, 1) := dk_172 (dk_at dksX1_isOut_0 17 rfl rfl)
theorem q60 : (Jvm.Cond.initialized "Burrowline") ∈ lw_all := lw_g (lw_at lw_m1 1 rfl) rfl
theorem q88 : (Jvm.Cond.instantiable "Burrowline" (10 : Nat)) ∈ lw_all := lw_g (lw_at lw_m1 29 rfl) rfl
theorem q90 : (Jvm.Cond.instanceMethod ({ cls := "Burrowline", name := "<init>", desc := "()V" } : Jvm.MethodName)) ∈ lw_all := lw_g (lw_at lw_m1 31 rfl) rfl
theorem q91 : (Jvm.Cond.code ({ cls := "Burrowline", name := "<init>", desc := "()V" } : Jvm.MethodName) prog_1_method_1_code (3 : Nat) (Option.none : Option Jvm.ClassFile.FieldType)) ∈ lw_all := lw_g (lw_at lw_m1 32 rfl) rfl
theorem q92 : (Jvm.Cond.methodLink "Burrowline" (1 : Nat) ({ cls := "java/lang/Object", name := "<init>", desc := "()V" } : Jvm.MethodName)) ∈ lw_all := lw_g (lw_at lw_m1 33 rfl) rfl
theorem q95 : (Jvm.Cond.classLink "Burrowline" (17 : Nat) "Burrowline$Table") ∈ lw_all := lw_g (lw_at lw_m1 36 rfl) rfl
theorem q97 : (Jvm.Cond.classLink "Burrowline" (23 : Nat) "[[LBurrowline$Side;") ∈ lw_all := lw_g (lw_at lw_m1 38 rfl) rfl
theorem q101 : (Jvm.Cond.classLink "Burrowline" (28 : Nat) "java/util/ArrayList") ∈ lw_all := lw_g (lw_at lw_m1 42 rfl) rfl
theorem q103 : (Jvm.Cond.methodLink "Burrowline" (30 : Nat) ({ cls := "java/util/ArrayList", name := "<init>", desc := "()V" } : Jvm.MethodName)) ∈ lw_all := lw_g (lw_at lw_m1 44 rfl) rfl
theorem q133 : (Jvm.Cond.methodLinkNest "Burrowline" (41 : Nat) ({ cls := "Burrowline$Table", name := "<init>", desc := "()V" } : Jvm.MethodName) "Burrowline") ∈ lw_tbl := lw_at lw_m1 74 rfl
theorem q138 : (Jvm.Cond.fieldLinkNest "Burrowline" (87 : Nat) "Burrowline$Table" "prefix" "[I" "Burrowline") ∈ lw_tbl := lw_at lw_m1 79 rfl
theorem q140 : (Jvm.Cond.fieldLinkNest "Burrowline" (90 : Nat) "Burrowline$Table" "bits" "[I" "Burrowline") ∈ lw_tbl := lw_at lw_m1 81 rfl
theorem q142 : (Jvm.Cond.fieldLinkNest "Burrowline" (93 : Nat) "Burrowline$Table" "peer" "[I" "Burrowline") ∈ lw_tbl := lw_at lw_m1 83 rfl
theorem q144 : (Jvm.Cond.fieldLinkNest "Burrowline" (82 : Nat) "Burrowline$Table" "many" "I" "Burrowline") ∈ lw_tbl := lw_at lw_m1 85 rfl
theorem q154 : (Jvm.Cond.methodLink "Burrowline" (42 : Nat) ({ cls := "java/util/ArrayList", name := "add", desc := "(Ljava/lang/Object;)Z" } : Jvm.MethodName)) ∈ lw_all := lw_g (lw_at lw_m1 95 rfl) rfl
theorem q186 : (Jvm.Cond.selects "Burrowline" ({ cls := "java/lang/Object", name := "getClass", desc := "()Ljava/lang/Class;" } : Jvm.MethodName) ({ cls := "java/lang/Object", name := "getClass", desc := "()Ljava/lang/Class;" } : Jvm.MethodName)) ∈ lw_all := lw_g (lw_at lw_m1 127 rfl) rfl
theorem q215 : (Jvm.Cond.classLink "Burrowline" (46 : Nat) "Burrowline$Side") ∈ lw_all := lw_g (lw_at lw_m1 156 rfl) rfl
theorem q217 : (Jvm.Cond.methodLinkNest "Burrowline" (48 : Nat) ({ cls := "Burrowline$Side", name := "<init>", desc := "(I)V" } : Jvm.MethodName) "Burrowline") ∈ lw_tbl := lw_at lw_m1 158 rfl
theorem q224 : (Jvm.Cond.fieldLinkNest "Burrowline" (218 : Nat) "Burrowline$Side" "known" "I" "Burrowline") ∈ lw_tbl := lw_at lw_m1 165 rfl
theorem q226 : (Jvm.Cond.fieldLinkNest "Burrowline" (358 : Nat) "Burrowline$Side" "previous" "LBurrowline$Session;" "Burrowline") ∈ lw_tbl := lw_at lw_m1 167 rfl
theorem q228 : (Jvm.Cond.fieldLinkNest "Burrowline" (104 : Nat) "Burrowline$Side" "current" "LBurrowline$Session;" "Burrowline") ∈ lw_tbl := lw_at lw_m1 169 rfl
theorem q230 : (Jvm.Cond.fieldLinkNest "Burrowline" (348 : Nat) "Burrowline$Side" "next" "LBurrowline$Session;" "Burrowline") ∈ lw_tbl := lw_at lw_m1 171 rfl
theorem q231 : (Jvm.Cond.fieldLinkNest "Burrowline" (146 : Nat) "Burrowline$Side" "flight" "LBurrowline$Flight;" "Burrowline") ∈ lw_tbl := lw_at lw_m1 172 rfl
theorem q232 : (Jvm.Cond.fieldLinkNest "Burrowline" (256 : Nat) "Burrowline$Side" "stampTaken" "I" "Burrowline") ∈ lw_tbl := lw_at lw_m1 173 rfl
theorem q233 : (Jvm.Cond.fieldLinkNest "Burrowline" (253 : Nat) "Burrowline$Side" "stampSent" "I" "Burrowline") ∈ lw_tbl := lw_at lw_m1 174 rfl
theorem q235 : (Jvm.Cond.fieldLinkNest "Burrowline" (250 : Nat) "Burrowline$Side" "cookie" "I" "Burrowline") ∈ lw_tbl := lw_at lw_m1 176 rfl
theorem q236 : (Jvm.Cond.fieldLinkNest "Burrowline" (367 : Nat) "Burrowline$Side" "cookieAt" "I" "Burrowline") ∈ lw_tbl := lw_at lw_m1 177 rfl
theorem q239 : (Jvm.Cond.fieldLinkNest "Burrowline" (244 : Nat) "Burrowline$Side" "waits" "I" "Burrowline") ∈ lw_tbl := lw_at lw_m1 180 rfl
theorem q263 : (Jvm.Cond.fieldLink "Burrowline" (58 : Nat) "Burrowline" "now" "I") ∈ lw_all := lw_g (lw_at lw_m1 204 rfl) rfl
theorem q264 : (Jvm.Cond.fieldLink "Burrowline" (339 : Nat) "Burrowline" "made" "I") ∈ lw_all := lw_g (lw_at lw_m1 205 rfl) rfl
theorem q265 : (Jvm.Cond.fieldLink "Burrowline" (171 : Nat) "Burrowline" "delivered" "I") ∈ lw_all := lw_g (lw_at lw_m1 206 rfl) rfl
theorem q266 : (Jvm.Cond.fieldLink "Burrowline" (7 : Nat) "Burrowline" "addresses" "[I") ∈ lw_all := lw_g (lw_at lw_m1 207 rfl) rfl
theorem q267 : (Jvm.Cond.fieldLink "Burrowline" (13 : Nat) "Burrowline" "loaded" "[Z") ∈ lw_all := lw_g (lw_at lw_m1 208 rfl) rfl
theorem q268 : (Jvm.Cond.fieldLink "Burrowline" (19 : Nat) "Burrowline" "tables" "[LBurrowline$Table;") ∈ lw_all := lw_g (lw_at lw_m1 209 rfl) rfl
theorem q269 : (Jvm.Cond.fieldLink "Burrowline" (25 : Nat) "Burrowline" "sides" "[[LBurrowline$Side;") ∈ lw_all := lw_g (lw_at lw_m1 210 rfl) rfl
theorem q270 : (Jvm.Cond.fieldLink "Burrowline" (31 : Nat) "Burrowline" "letters" "Ljava/util/ArrayList;") ∈ lw_all := lw_g (lw_at lw_m1 211 rfl) rfl
theorem q271 : (Jvm.Cond.fieldLink "Burrowline" (35 : Nat) "Burrowline" "packetRows" "Ljava/util/ArrayList;") ∈ lw_all := lw_g (lw_at lw_m1 212 rfl) rfl
theorem q272 : (Jvm.Cond.fieldLink "Burrowline" (38 : Nat) "Burrowline" "codes" "[I") ∈ lw_all := lw_g (lw_at lw_m1 213 rfl) rfl
theorem q273 : (Jvm.Cond.lays "Burrowline" "Burrowline" "now" "I") ∈ lw_all := lw_g (lw_at lw_m1 214 rfl) rfl
theorem q274 : (Jvm.Cond.soleField "Burrowline" "now") ∈ lw_all := lw_g (lw_at lw_m1 215 rfl) rfl
theorem q275 : (Jvm.Cond.lays "Burrowline" "Burrowline" "made" "I") ∈ lw_all := lw_g (lw_at lw_m1 216 rfl) rfl
theorem q276 : (Jvm.Cond.soleField "Burrowline" "made") ∈ lw_all := lw_g (lw_at lw_m1 217 rfl) rfl
theorem q277 : (Jvm.Cond.lays "Burrowline" "Burrowline" "delivered" "I") ∈ lw_all := lw_g (lw_at lw_m1 218 rfl) rfl
theorem q278 : (Jvm.Cond.soleField "Burrowline" "delivered") ∈ lw_all := lw_g (lw_at lw_m1 219 rfl) rfl
theorem q279 : (Jvm.Cond.laysFinal "Burrowline" "Burrowline" "addresses" "[I") ∈ lw_all := lw_g (lw_at lw_m1 220 rfl) rfl
theorem q280 : (Jvm.Cond.soleField "Burrowline" "addresses") ∈ lw_all := lw_g (lw_at lw_m1 221 rfl) rfl
theorem q281 : (Jvm.Cond.laysFinal "Burrowline" "Burrowline" "loaded" "[Z") ∈ lw_all := lw_g (lw_at lw_m1 222 rfl) rfl
theorem q282 : (Jvm.Cond.soleField "Burrowline" "loaded") ∈ lw_all := lw_g (lw_at lw_m1 223 rfl) rfl
theorem q283 : (Jvm.Cond.laysFinal "Burrowline" "Burrowline" "tables" "[LBurrowline$Table;") ∈ lw_all := lw_g (lw_at lw_m1 224 rfl) rfl
theorem q284 : (Jvm.Cond.soleField "Burrowline" "tables") ∈ lw_all := lw_g (lw_at lw_m1 225 rfl) rfl
theorem q285 : (Jvm.Cond.laysFinal "Burrowline" "Burrowline" "sides" "[[LBurrowline$Side;") ∈ lw_all := lw_g (lw_at lw_m1 226 rfl) rfl
theorem q286 : (Jvm.Cond.soleField "Burrowline" "sides") ∈ lw_all := lw_g (lw_at lw_m1 227 rfl) rfl
theorem q287 : (Jvm.Cond.laysFinal "Burrowline" "Burrowline" "letters" "Ljava/util/ArrayList;") ∈ lw_all := lw_g (lw_at lw_m1 228 rfl) rfl
theorem q288 : (Jvm.Cond.soleField "Burrowline" "letters") ∈ lw_all := lw_g (lw_at lw_m1 229 rfl) rfl
theorem q289 : (Jvm.Cond.laysFinal "Burrowline" "Burrowline" "packetRows" "Ljava/util/ArrayList;") ∈ lw_all := lw_g (lw_at lw_m1 230 rfl) rfl
theorem q290 : (Jvm.Cond.soleField "Burrowline" "packetRows") ∈ lw_all := lw_g (lw_at lw_m1 231 rfl) rfl
theorem q291 : (Jvm.Cond.laysFinal "Burrowline" "Burrowline" "codes" "[I") ∈ lw_all := lw_g (lw_at lw_m1 232 rfl) rfl
theorem q292 : (Jvm.Cond.soleField "Burrowline" "codes") ∈ lw_all := lw_g (lw_at lw_m1 233 rfl) rfl
theorem q293 : (Jvm.Cond.superclass "Burrowline" "java/lang/Object") ∈ lw_all := lw_g (lw_at lw_m1 234 rfl) rfl
theorem q295 : (Jvm.Cond.instanceMethod ({ cls := "Burrowline", name := "now", desc := "()I" } : Jvm.MethodName)) ∈ lw_all := lw_g (lw_at lw_m1 236 rfl) rfl
theorem q296 : (Jvm.Cond.selects "Burrowline" ({ cls := "Burrowline", name := "now", desc := "()I" } : Jvm.MethodName) ({ cls := "Burrowline", name := "now", desc := "()I" } : Jvm.MethodName)) ∈ lw_all := lw_g (lw_at lw_m1 237 rfl) rfl
theorem q297 : (Jvm.Cond.code ({ cls := "Burrowline", name := "now", desc := "()I" } : Jvm.MethodName) prog_1_method_16_code (1 : Nat) (Option.some Jvm.ClassFile.FieldType.int)) ∈ lw_all := lw_g (lw_at lw_m1 238 rfl) rfl
theorem q299 : (Jvm.Cond.instanceMethod ({ cls := "Burrowline", name := "letters", desc := "()I" } : Jvm.MethodName)) ∈ lw_all := lw_g (lw_at lw_m2 0 rfl) rfl
theorem q300 : (Jvm.Cond.selects "Burrowline" ({ cls := "Burrowline", name := "letters", desc := "()I" } : Jvm.MethodName) ({ cls := "Burrowline", name := "letters", desc := "()I" } : Jvm.MethodName)) ∈ lw_all := lw_g (lw_at lw_m2 1 rfl) rfl
theorem q301 : (Jvm.Cond.code ({ cls := "Burrowline", name := "letters", desc := "()I" } : Jvm.MethodName) prog_1_method_17_code (1 : Nat) (Option.some Jvm.ClassFile.FieldType.int)) ∈ lw_all := lw_g (lw_at lw_m2 2 rfl) rfl
theorem q302 : (Jvm.Cond.methodLink "Burrowline" (174 : Nat) ({ cls := "java/util/ArrayList", name := "size", desc := "()I" } : Jvm.MethodName)) ∈ lw_all := lw_g (lw_at lw_m2 3 rfl) rfl
theorem q307 : (Jvm.Cond.instanceMethod ({ cls := "Burrowline", name := "share", desc := "()F" } : Jvm.MethodName)) ∈ lw_all := lw_g (lw_at lw_m2 8 rfl) rfl
theorem q308 : (Jvm.Cond.selects "Burrowline" ({ cls := "Burrowline", name := "share", desc := "()F" } : Jvm.MethodName) ({ cls := "Burrowline", name := "share", desc := "()F" } : Jvm.MethodName)) ∈ lw_all := lw_g (lw_at lw_m2 9 rfl) rfl
theorem q309 : (Jvm.Cond.code ({ cls := "Burrowline", name := "share", desc := "()F" } : Jvm.MethodName) prog_1_method_35_code (2 : Nat) (Option.some Jvm.ClassFile.FieldType.float)) ∈ lw_all := lw_g (lw_at lw_m2 10 rfl) rfl
theorem q311 : (Jvm.Cond.instanceMethod ({ cls := "Burrowline", name := "meanAge", desc := "()D" } : Jvm.MethodName)) ∈ lw_all := lw_g (lw_at lw_m2 12 rfl) rfl
theorem q312 : (Jvm.Cond.selects "Burrowline" ({ cls := "Burrowline", name := "meanAge", desc := "()D" } : Jvm.MethodName) ({ cls := "Burrowline", name := "meanAge", desc := "()D" } : Jvm.MethodName)) ∈ lw_all := lw_g (lw_at lw_m2 13 rfl) rfl
theorem q313 : (Jvm.Cond.code ({ cls := "Burrowline", name := "meanAge", desc := "()D" } : Jvm.MethodName) prog_1_method_36_code (6 : Nat) (Option.some Jvm.ClassFile.FieldType.double)) ∈ lw_all := lw_g (lw_at lw_m2 14 rfl) rfl
theorem q314 : (Jvm.Cond.methodLink "Burrowline" (122 : Nat) ({ cls := "Burrowline", name := "age", desc := "(LBurrowline$Session;)I" } : Jvm.MethodName)) ∈ lw_all := lw_g (lw_at lw_m2 15 rfl) rfl
theorem q315 : (Jvm.Cond.privateMethod ({ cls := "Burrowline", name := "age", desc := "(LBurrowline$Session;)I" } : Jvm.MethodName)) ∈ lw_tbl := lw_at lw_m2 16 rfl
theorem q316 : (Jvm.Cond.instanceMethod ({ cls := "Burrowline", name := "age", desc := "(LBurrowline$Session;)I" } : Jvm.MethodName)) ∈ lw_all := lw_g (lw_at lw_m2 17 rfl) rfl
theorem q317 : (Jvm.Cond.code ({ cls := "Burrowline", name := "age", desc := "(LBurrowline$Session;)I" } : Jvm.MethodName) prog_1_method_50_code (2 : Nat) (Option.some Jvm.ClassFile.FieldType.int)) ∈ lw_all := lw_g (lw_at lw_m2 18 rfl) rfl
theorem q319 : (Jvm.Cond.instanceMethod ({ cls := "Burrowline", name := "isSound", desc := "()Z" } : Jvm.MethodName)) ∈ lw_all := lw_g (lw_at lw_m2 20 rfl) rfl
theorem q320 : (Jvm.Cond.selects "Burrowline" ({ cls := "Burrowline", name := "isSound", desc := "()Z" } : Jvm.MethodName) ({ cls := "Burrowline", name := "isSound", desc := "()Z" } : Jvm.MethodName)) ∈ lw_all := lw_g (lw_at lw_m2 21 rfl) rfl
theorem q321 : (Jvm.Cond.code ({ cls := "Burrowline", name := "isSound", desc := "()Z" } : Jvm.MethodName) prog_1_method_37_code (6 : Nat) (Option.some Jvm.ClassFile.FieldType.boolean)) ∈ lw_all := lw_g (lw_at lw_m2 22 rfl) rfl
theorem q322 : (Jvm.Cond.methodLinkNest "Burrowline" (225 : Nat) ({ cls := "Burrowline$Side", name := "session", desc := "(I)LBurrowline$Session;" } : Jvm.MethodName) "Burrowline") ∈ lw_tbl := lw_at lw_m2 23 rfl
theorem q326 : (Jvm.Cond.methodLink "Burrowline" (284 : Nat) ({ cls := "java/util/ArrayList", name := "iterator", desc := "()Ljava/util/Iterator;" } : Jvm.MethodName)) ∈ lw_all := lw_g (lw_at lw_m2 27 rfl) rfl
theorem q349 : (Jvm.Cond.interfaceEntry "Burrowline" (288 : Nat)) ∈ lw_tbl := lw_at lw_m2 50 rfl
theorem q350 : (Jvm.Cond.methodLink "Burrowline" (288 : Nat) ({ cls := "java/util/Iterator", name := "hasNext", desc := "()Z" } : Jvm.MethodName)) ∈ lw_all := lw_g (lw_at lw_m2 51 rfl) rfl
theorem q359 : (Jvm.Cond.interfaceEntry "Burrowline" (293 : Nat)) ∈ lw_tbl := lw_at lw_m2 60 rfl
theorem q360 : (Jvm.Cond.methodLink "Burrowline" (293 : Nat) ({ cls := "java/util/Iterator", name := "next", desc := "()Ljava/lang/Object;" } : Jvm.MethodName)) ∈ lw_all := lw_g (lw_at lw_m2 61 rfl) rfl
theorem q438 : (Jvm.Cond.classLink "Burrowline" (117 : Nat) "Burrowline$Session") ∈ lw_all := lw_g (lw_at lw_m2 139 rfl) rfl
theorem q439 : (Jvm.Cond.methodLinkNest "Burrowline" (297 : Nat) ({ cls := "Burrowline$Session", name := "isSound", desc := "()Z" } : Jvm.MethodName) "Burrowline") ∈ lw_tbl := lw_at lw_m2 140 rfl
theorem q444 : (Jvm.Cond.classLink "Burrowline" (162 : Nat) "Burrowline$Letter") ∈ lw_all := lw_g (lw_at lw_m2 145 rfl) rfl
theorem q445 : (Jvm.Cond.methodLinkNest "Burrowline" (214 : Nat) ({ cls := "Burrowline$Letter", name := "isTurned", desc := "()Z" } : Jvm.MethodName) "Burrowline") ∈ lw_tbl := lw_at lw_m2 146 rfl
theorem q450 : (Jvm.Cond.methodLinkNest "Burrowline" (300 : Nat) ({ cls := "Burrowline$Letter", name := "isRight", desc := "()Z" } : Jvm.MethodName) "Burrowline") ∈ lw_tbl := lw_at lw_m2 151 rfl
theorem q455 : (Jvm.Cond.static ({ cls := "Burrowline", name := "sealOf", desc := "(I[I)I" } : Jvm.MethodName)) ∈ lw_all := lw_g (lw_at lw_m2 156 rfl) rfl
theorem q456 : (Jvm.Cond.code ({ cls := "Burrowline", name := "sealOf", desc := "(I[I)I" } : Jvm.MethodName) prog_1_method_60_code (10 : Nat) (Option.some Jvm.ClassFile.FieldType.int)) ∈ lw_all := lw_g (lw_at lw_m2 157 rfl) rfl
theorem q457 : (Jvm.Cond.constant "Burrowline" (399 : Nat) (65521 : Int32)) ∈ lw_all := lw_g (lw_at lw_m2 158 rfl) rfl
theorem q458 : (Jvm.Cond.methodLink "Burrowline" (400 : Nat) ({ cls := "java/lang/Math", name := "floorMod", desc := "(II)I" } : Jvm.MethodName)) ∈ lw_all := lw_g (lw_at lw_m2 159 rfl) rfl
theorem q461 : (Jvm.Cond.constantLong "Burrowline" (403 : Nat) (65521 : Int64)) ∈ lw_all := lw_g (lw_at lw_m2 162 rfl) rfl
theorem q463 : (Jvm.Cond.instanceMethod ({ cls := "Burrowline", name := "checksum", desc := "()J" } : Jvm.MethodName)) ∈ lw_all := lw_g (lw_at lw_m2 164 rfl) rfl
theorem q464 : (Jvm.Cond.selects "Burrowline" ({ cls := "Burrowline", name := "checksum", desc := "()J" } : Jvm.MethodName) ({ cls := "Burrowline", name := "checksum", desc := "()J" } : Jvm.MethodName)) ∈ lw_all := lw_g (lw_at lw_m2 165 rfl) rfl
theorem q465 : (Jvm.Cond.code ({ cls := "Burrowline", name := "checksum", desc := "()J" } : Jvm.MethodName) prog_1_method_38_code (8 : Nat) (Option.some Jvm.ClassFile.FieldType.long)) ∈ lw_all := lw_g (lw_at lw_m2 166 rfl) rfl
theorem q466 : (Jvm.Cond.constantLong "Burrowline" (303 : Nat) (31 : Int64)) ∈ lw_all := lw_g (lw_at lw_m2 167 rfl) rfl
theorem q467 : (Jvm.Cond.constantLong "Burrowline" (305 : Nat) (-1 : Int64)) ∈ lw_all := lw_g (lw_at lw_m2 168 rfl) rfl
theorem q468 : (Jvm.Cond.methodLink "Burrowline" (178 : Nat) ({ cls := "java/util/ArrayList", name := "get", desc := "(I)Ljava/lang/Object;" } : Jvm.MethodName)) ∈ lw_all := lw_g (lw_at lw_m2 169 rfl) rfl
theorem q482 : (Jvm.Cond.classLink "Burrowline" (263 : Nat) "[I") ∈ lw_all := lw_g (lw_at lw_m2 183 rfl) rfl
theorem q483 : (Jvm.Cond.methodLinkNest "Burrowline" (211 : Nat) ({ cls := "Burrowline$Letter", name := "tell", desc := "(I)I" } : Jvm.MethodName) "Burrowline") ∈ lw_tbl := lw_at lw_m2 184 rfl
theorem q493 : (Jvm.Cond.instanceMethod ({ cls := "Burrowline", name := "pass", desc := "(I)I" } : Jvm.MethodName)) ∈ lw_all := lw_g (lw_at lw_m2 194 rfl) rfl
theorem q494 : (Jvm.Cond.selects "Burrowline" ({ cls := "Burrowline", name := "pass", desc := "(I)I" } : Jvm.MethodName) ({ cls := "Burrowline", name := "pass", desc := "(I)I" } : Jvm.MethodName)) ∈ lw_all := lw_g (lw_at lw_m2 195 rfl) rfl
theorem q495 : (Jvm.Cond.code ({ cls := "Burrowline", name := "pass", desc := "(I)I" } : Jvm.MethodName) prog_1_method_2_code (2 : Nat) (Option.some Jvm.ClassFile.FieldType.int)) ∈ lw_all := lw_g (lw_at lw_m2 196 rfl) rfl
theorem q496 : (Jvm.Cond.classLink "Burrowline" (51 : Nat) "java/lang/IllegalArgumentException") ∈ lw_all := lw_g (lw_at lw_m2 197 rfl) rfl
theorem q505 : (Jvm.Cond.stringRef "Burrowline" (53 : Nat) "ticks") ∈ lw_tbl := lw_at lw_m2 206 rfl
theorem q506 : (Jvm.Cond.methodLink "Burrowline" (55 : Nat) ({ cls := "java/lang/IllegalArgumentException", name := "<init>", desc := "(Ljava/lang/String;)V" } : Jvm.MethodName)) ∈ lw_all := lw_g (lw_at lw_m2 207 rfl) rfl
theorem q521 : (Jvm.Cond.constant "Burrowline" (62 : Nat) (500000000 : Int32)) ∈ lw_all := lw_g (lw_at lw_m2 222 rfl) rfl
theorem q522 : (Jvm.Cond.classLink "Burrowline" (63 : Nat) "java/lang/IllegalStateException") ∈ lw_all := lw_g (lw_at lw_m2 223 rfl) rfl
theorem q531 : (Jvm.Cond.stringRef "Burrowline" (65 : Nat) "time") ∈ lw_tbl := lw_at lw_m2 232 rfl
theorem q532 : (Jvm.Cond.methodLink "Burrowline" (67 : Nat) ({ cls := "java/lang/IllegalStateException", name := "<init>", desc := "(Ljava/lang/String;)V" } : Jvm.MethodName)) ∈ lw_all := lw_g (lw_at lw_m2 233 rfl) rfl
theorem q566 : (Jvm.Cond.instanceMethod ({ cls := "Burrowline", name := "move", desc := "(II)I" } : Jvm.MethodName)) ∈ lw_all := lw_g (lw_at lw_m3 27 rfl) rfl
theorem q567 : (Jvm.Cond.selects "Burrowline" ({ cls := "Burrowline", name := "move", desc := "(II)I" } : Jvm.MethodName) ({ cls := "Burrowline", name := "move", desc := "(II)I" } : Jvm.MethodName)) ∈ lw_all := lw_g (lw_at lw_m3 28 rfl) rfl
theorem q568 : (Jvm.Cond.code ({ cls := "Burrowline", name := "move", desc := "(II)I" } : Jvm.MethodName) prog_1_method_3_code (4 : Nat) (Option.some Jvm.ClassFile.FieldType.int)) ∈ lw_all := lw_g (lw_at lw_m3 29 rfl) rfl
theorem q569 : (Jvm.Cond.methodLink "Burrowline" (68 : Nat) ({ cls := "Burrowline", name := "checkEnd", desc := "(I)V" } : Jvm.MethodName)) ∈ lw_all := lw_g (lw_at lw_m3 30 rfl) rfl
theorem q570 : (Jvm.Cond.static ({ cls := "Burrowline", name := "checkEnd", desc := "(I)V" } : Jvm.MethodName)) ∈ lw_all := lw_g (lw_at lw_m3 31 rfl) rfl
theorem q571 : (Jvm.Cond.code ({ cls := "Burrowline", name := "checkEnd", desc := "(I)V" } : Jvm.MethodName) prog_1_method_63_code (1 : Nat) (Option.none : Option Jvm.ClassFile.FieldType)) ∈ lw_all := lw_g (lw_at lw_m3 32 rfl) rfl
theorem q572 : (Jvm.Cond.classLink "Burrowline" (259 : Nat) "java/lang/IndexOutOfBoundsException") ∈ lw_all := lw_g (lw_at lw_m3 33 rfl) rfl
theorem q581 : (Jvm.Cond.stringRef "Burrowline" (405 : Nat) "end") ∈ lw_tbl := lw_at lw_m3 42 rfl
theorem q582 : (Jvm.Cond.methodLink "Burrowline" (262 : Nat) ({ cls := "java/lang/IndexOutOfBoundsException", name := "<init>", desc := "(Ljava/lang/String;)V" } : Jvm.MethodName)) ∈ lw_all := lw_g (lw_at lw_m3 43 rfl) rfl
theorem q585 : (Jvm.Cond.stringRef "Burrowline" (71 : Nat) "address") ∈ lw_tbl := lw_at lw_m3 46 rfl
theorem q590 : (Jvm.Cond.instanceMethod ({ cls := "Burrowline", name := "load", desc := "(IZ)Z" } : Jvm.MethodName)) ∈ lw_all := lw_g (lw_at lw_m3 51 rfl) rfl
theorem q591 : (Jvm.Cond.selects "Burrowline" ({ cls := "Burrowline", name := "load", desc := "(IZ)Z" } : Jvm.MethodName) ({ cls := "Burrowline", name := "load", desc := "(IZ)Z" } : Jvm.MethodName)) ∈ lw_all := lw_g (lw_at lw_m3 52 rfl) rfl
theorem q592 : (Jvm.Cond.code ({ cls := "Burrowline", name := "load", desc := "(IZ)Z" } : Jvm.MethodName) prog_1_method_4_code (4 : Nat) (Option.some Jvm.ClassFile.FieldType.boolean)) ∈ lw_all := lw_g (lw_at lw_m3 53 rfl) rfl
theorem q597 : (Jvm.Cond.instanceMethod ({ cls := "Burrowline", name := "allow", desc := "(IIII)I" } : Jvm.MethodName)) ∈ lw_all := lw_g (lw_at lw_m3 58 rfl) rfl
theorem q598 : (Jvm.Cond.selects "Burrowline" ({ cls := "Burrowline", name := "allow", desc := "(IIII)I" } : Jvm.MethodName) ({ cls := "Burrowline", name := "allow", desc := "(IIII)I" } : Jvm.MethodName)) ∈ lw_all := lw_g (lw_at lw_m3 59 rfl) rfl
theorem q599 : (Jvm.Cond.code ({ cls := "Burrowline", name := "allow", desc := "(IIII)I" } : Jvm.MethodName) prog_1_method_5_code (8 : Nat) (Option.some Jvm.ClassFile.FieldType.int)) ∈ lw_all := lw_g (lw_at lw_m3 60 rfl) rfl
theorem q600 : (Jvm.Cond.stringRef "Burrowline" (73 : Nat) "route") ∈ lw_tbl := lw_at lw_m3 61 rfl
theorem q601 : (Jvm.Cond.methodLink "Burrowline" (75 : Nat) ({ cls := "Burrowline", name := "cut", desc := "(II)I" } : Jvm.MethodName)) ∈ lw_all := lw_g (lw_at lw_m3 62 rfl) rfl
theorem q602 : (Jvm.Cond.static ({ cls := "Burrowline", name := "cut", desc := "(II)I" } : Jvm.MethodName)) ∈ lw_all := lw_g (lw_at lw_m3 63 rfl) rfl
theorem q603 : (Jvm.Cond.code ({ cls := "Burrowline", name := "cut", desc := "(II)I" } : Jvm.MethodName) prog_1_method_62_code (2 : Nat) (Option.some Jvm.ClassFile.FieldType.int)) ∈ lw_all := lw_g (lw_at lw_m3 64 rfl) rfl
theorem q604 : (Jvm.Cond.methodLinkNest "Burrowline" (79 : Nat) ({ cls := "Burrowline$Table", name := "place", desc := "(II)I" } : Jvm.MethodName) "Burrowline") ∈ lw_tbl := lw_at lw_m3 65 rfl
theorem q608 : (Jvm.Cond.stringRef "Burrowline" (85 : Nat) "full") ∈ lw_tbl := lw_at lw_m3 69 rfl
theorem q614 : (Jvm.Cond.instanceMethod ({ cls := "Burrowline", name := "forbid", desc := "(III)I" } : Jvm.MethodName)) ∈ lw_all := lw_g (lw_at lw_m3 75 rfl) rfl
theorem q615 : (Jvm.Cond.selects "Burrowline" ({ cls := "Burrowline", name := "forbid", desc := "(III)I" } : Jvm.MethodName) ({ cls := "Burrowline", name := "forbid", desc := "(III)I" } : Jvm.MethodName)) ∈ lw_all := lw_g (lw_at lw_m3 76 rfl) rfl
theorem q616 : (Jvm.Cond.code ({ cls := "Burrowline", name := "forbid", desc := "(III)I" } : Jvm.MethodName) prog_1_method_6_code (7 : Nat) (Option.some Jvm.ClassFile.FieldType.int)) ∈ lw_all := lw_g (lw_at lw_m3 77 rfl) rfl
theorem q617 : (Jvm.Cond.classLink "Burrowline" (96 : Nat) "java/util/NoSuchElementException") ∈ lw_all := lw_g (lw_at lw_m3 78 rfl) rfl
theorem q618 : (Jvm.Cond.methodLink "Burrowline" (98 : Nat) ({ cls := "java/util/NoSuchElementException", name := "<init>", desc := "(Ljava/lang/String;)V" } : Jvm.MethodName)) ∈ lw_all := lw_g (lw_at lw_m3 79 rfl) rfl
theorem q626 : (Jvm.Cond.instanceMethod ({ cls := "Burrowline", name := "send", desc := "(IIII)I" } : Jvm.MethodName)) ∈ lw_all := lw_g (lw_at lw_m3 87 rfl) rfl
theorem q627 : (Jvm.Cond.selects "Burrowline" ({ cls := "Burrowline", name := "send", desc := "(IIII)I" } : Jvm.MethodName) ({ cls := "Burrowline", name := "send", desc := "(IIII)I" } : Jvm.MethodName)) ∈ lw_all := lw_g (lw_at lw_m3 88 rfl) rfl
theorem q628 : (Jvm.Cond.code ({ cls := "Burrowline", name := "send", desc := "(IIII)I" } : Jvm.MethodName) prog_1_method_7_code (8 : Nat) (Option.some Jvm.ClassFile.FieldType.int)) ∈ lw_all := lw_g (lw_at lw_m3 89 rfl) rfl
theorem q629 : (Jvm.Cond.stringRef "Burrowline" (99 : Nat) "packet") ∈ lw_tbl := lw_at lw_m3 90 rfl
theorem q630 : (Jvm.Cond.methodLinkNest "Burrowline" (101 : Nat) ({ cls := "Burrowline$Table", name := "route", desc := "(I)I" } : Jvm.MethodName) "Burrowline") ∈ lw_tbl := lw_at lw_m3 91 rfl
theorem q635 : (Jvm.Cond.methodLink "Burrowline" (108 : Nat) ({ cls := "Burrowline", name := "isUsable", desc := "(LBurrowline$Session;)Z" } : Jvm.MethodName)) ∈ lw_all := lw_g (lw_at lw_m3 96 rfl) rfl
theorem q636 : (Jvm.Cond.privateMethod ({ cls := "Burrowline", name := "isUsable", desc := "(LBurrowline$Session;)Z" } : Jvm.MethodName)) ∈ lw_tbl := lw_at lw_m3 97 rfl
theorem q637 : (Jvm.Cond.instanceMethod ({ cls := "Burrowline", name := "isUsable", desc := "(LBurrowline$Session;)Z" } : Jvm.MethodName)) ∈ lw_all := lw_g (lw_at lw_m3 98 rfl) rfl
theorem q638 : (Jvm.Cond.code ({ cls := "Burrowline", name := "isUsable", desc := "(LBurrowline$Session;)Z" } : Jvm.MethodName) prog_1_method_51_code (2 : Nat) (Option.some Jvm.ClassFile.FieldType.boolean)) ∈ lw_all := lw_g (lw_at lw_m3 99 rfl) rfl
theorem q639 : (Jvm.Cond.methodLink "Burrowline" (112 : Nat) ({ cls := "Burrowline", name := "sendData", desc := "(IIIII)V" } : Jvm.MethodName)) ∈ lw_all := lw_g (lw_at lw_m3 100 rfl) rfl
theorem q640 : (Jvm.Cond.privateMethod ({ cls := "Burrowline", name := "sendData", desc := "(IIIII)V" } : Jvm.MethodName)) ∈ lw_tbl := lw_at lw_m3 101 rfl
theorem q641 : (Jvm.Cond.instanceMethod ({ cls := "Burrowline", name := "sendData", desc := "(IIIII)V" } : Jvm.MethodName)) ∈ lw_all := lw_g (lw_at lw_m3 102 rfl) rfl
theorem q642 : (Jvm.Cond.code ({ cls := "Burrowline", name := "sendData", desc := "(IIIII)V" } : Jvm.MethodName) prog_1_method_47_code (9 : Nat) (Option.none : Option Jvm.ClassFile.FieldType)) ∈ lw_all := lw_g (lw_at lw_m3 103 rfl) rfl
theorem q643 : (Jvm.Cond.methodLink "Burrowline" (280 : Nat) ({ cls := "Burrowline", name := "sealOf", desc := "(I[I)I" } : Jvm.MethodName)) ∈ lw_all := lw_g (lw_at lw_m3 104 rfl) rfl
theorem q644 : (Jvm.Cond.methodLink "Burrowline" (332 : Nat) ({ cls := "Burrowline", name := "post", desc := "(IIII[I)V" } : Jvm.MethodName)) ∈ lw_all := lw_g (lw_at lw_m3 105 rfl) rfl
theorem q645 : (Jvm.Cond.privateMethod ({ cls := "Burrowline", name := "post", desc := "(IIII[I)V" } : Jvm.MethodName)) ∈ lw_tbl := lw_at lw_m3 106 rfl
theorem q646 : (Jvm.Cond.instanceMethod ({ cls := "Burrowline", name := "post", desc := "(IIII[I)V" } : Jvm.MethodName)) ∈ lw_all := lw_g (lw_at lw_m3 107 rfl) rfl
theorem q647 : (Jvm.Cond.code ({ cls := "Burrowline", name := "post", desc := "(IIII[I)V" } : Jvm.MethodName) prog_1_method_49_code (6 : Nat) (Option.none : Option Jvm.ClassFile.FieldType)) ∈ lw_all := lw_g (lw_at lw_m3 108 rfl) rfl
theorem q648 : (Jvm.Cond.methodLinkNest "Burrowline" (389 : Nat) ({ cls := "Burrowline$Letter", name := "<init>", desc := "(IIII[I)V" } : Jvm.MethodName) "Burrowline") ∈ lw_tbl := lw_at lw_m3 109 rfl
theorem q654 : (Jvm.Cond.fieldLinkNest "Burrowline" (206 : Nat) "Burrowline$Letter" "from" "I" "Burrowline") ∈ lw_tbl := lw_at lw_m3 115 rfl
theorem q656 : (Jvm.Cond.fieldLinkNest "Burrowline" (164 : Nat) "Burrowline$Letter" "to" "I" "Burrowline") ∈ lw_tbl := lw_at lw_m3 117 rfl
theorem q658 : (Jvm.Cond.fieldLinkNest "Burrowline" (307 : Nat) "Burrowline$Letter" "kind" "I" "Burrowline") ∈ lw_tbl := lw_at lw_m3 119 rfl
theorem q661 : (Jvm.Cond.fieldLinkNest "Burrowline" (191 : Nat) "Burrowline$Letter" "fields" "[I" "Burrowline") ∈ lw_tbl := lw_at lw_m3 122 rfl
theorem q663 : (Jvm.Cond.fieldLinkNest "Burrowline" (188 : Nat) "Burrowline$Letter" "turned" "I" "Burrowline") ∈ lw_tbl := lw_at lw_m3 124 rfl
theorem q665 : (Jvm.Cond.fieldLinkNest "Burrowline" (194 : Nat) "Burrowline$Letter" "sent" "I" "Burrowline") ∈ lw_tbl := lw_at lw_m3 126 rfl
theorem q681 : (Jvm.Cond.methodLink "Burrowline" (129 : Nat) ({ cls := "Burrowline", name := "isFresh", desc := "(LBurrowline$Side;)Z" } : Jvm.MethodName)) ∈ lw_all := lw_g (lw_at lw_m3 142 rfl) rfl
theorem q682 : (Jvm.Cond.privateMethod ({ cls := "Burrowline", name := "isFresh", desc := "(LBurrowline$Side;)Z" } : Jvm.MethodName)) ∈ lw_tbl := lw_at lw_m3 143 rfl
theorem q683 : (Jvm.Cond.instanceMethod ({ cls := "Burrowline", name := "isFresh", desc := "(LBurrowline$Side;)Z" } : Jvm.MethodName)) ∈ lw_all := lw_g (lw_at lw_m3 144 rfl) rfl
theorem q684 : (Jvm.Cond.code ({ cls := "Burrowline", name := "isFresh", desc := "(LBurrowline$Side;)Z" } : Jvm.MethodName) prog_1_method_52_code (2 : Nat) (Option.some Jvm.ClassFile.FieldType.boolean)) ∈ lw_all := lw_g (lw_at lw_m3 145 rfl) rfl
theorem q685 : (Jvm.Cond.methodLink "Burrowline" (133 : Nat) ({ cls := "Burrowline", name := "sendHello", desc := "(II)V" } : Jvm.MethodName)) ∈ lw_all := lw_g (lw_at lw_m3 146 rfl) rfl
theorem q686 : (Jvm.Cond.privateMethod ({ cls := "Burrowline", name := "sendHello", desc := "(II)V" } : Jvm.MethodName)) ∈ lw_tbl := lw_at lw_m3 147 rfl
theorem q687 : (Jvm.Cond.instanceMethod ({ cls := "Burrowline", name := "sendHello", desc := "(II)V" } : Jvm.MethodName)) ∈ lw_all := lw_g (lw_at lw_m3 148 rfl) rfl
theorem q688 : (Jvm.Cond.code ({ cls := "Burrowline", name := "sendHello", desc := "(II)V" } : Jvm.MethodName) prog_1_method_46_code (11 : Nat) (Option.none : Option Jvm.ClassFile.FieldType)) ∈ lw_all := lw_g (lw_at lw_m3 149 rfl) rfl
theorem q689 : (Jvm.Cond.methodLink "Burrowline" (342 : Nat) ({ cls := "Burrowline", name := "drawn", desc := "(I)I" } : Jvm.MethodName)) ∈ lw_all := lw_g (lw_at lw_m3 150 rfl) rfl
theorem q690 : (Jvm.Cond.static ({ cls := "Burrowline", name := "drawn", desc := "(I)I" } : Jvm.MethodName)) ∈ lw_all := lw_g (lw_at lw_m3 151 rfl) rfl
theorem q691 : (Jvm.Cond.code ({ cls := "Burrowline", name := "drawn", desc := "(I)I" } : Jvm.MethodName) prog_1_method_57_code (1 : Nat) (Option.some Jvm.ClassFile.FieldType.int)) ∈ lw_all := lw_g (lw_at lw_m3 152 rfl) rfl
theorem q692 : (Jvm.Cond.constantLong "Burrowline" (395 : Nat) (577 : Int64)) ∈ lw_all := lw_g (lw_at lw_m3 153 rfl) rfl
theorem q693 : (Jvm.Cond.constantLong "Burrowline" (397 : Nat) (1018 : Int64)) ∈ lw_all := lw_g (lw_at lw_m3 154 rfl) rfl
theorem q694 : (Jvm.Cond.methodLink "Burrowline" (269 : Nat) ({ cls := "Burrowline", name := "power", desc := "(II)I" } : Jvm.MethodName)) ∈ lw_all := lw_g (lw_at lw_m3 155 rfl) rfl
theorem q695 : (Jvm.Cond.static ({ cls := "Burrowline", name := "power", desc := "(II)I" } : Jvm.MethodName)) ∈ lw_all := lw_g (lw_at lw_m3 156 rfl) rfl
theorem q696 : (Jvm.Cond.code ({ cls := "Burrowline", name := "power", desc := "(II)I" } : Jvm.MethodName) prog_1_method_58_code (5 : Nat) (Option.some Jvm.ClassFile.FieldType.int)) ∈ lw_all := lw_g (lw_at lw_m3 157 rfl) rfl
theorem q697 : (Jvm.Cond.methodLink "Burrowline" (380 : Nat) ({ cls := "java/lang/Math", name := "max", desc := "(II)I" } : Jvm.MethodName)) ∈ lw_all := lw_g (lw_at lw_m3 158 rfl) rfl
theorem q698 : (Jvm.Cond.methodLink "Burrowline" (329 : Nat) ({ cls := "Burrowline", name := "publicNumber", desc := "(I)I" } : Jvm.MethodName)) ∈ lw_all := lw_g (lw_at lw_m3 159 rfl) rfl
theorem q699 : (Jvm.Cond.static ({ cls := "Burrowline", name := "publicNumber", desc := "(I)I" } : Jvm.MethodName)) ∈ lw_all := lw_g (lw_at lw_m3 160 rfl) rfl
theorem q700 : (Jvm.Cond.code ({ cls := "Burrowline", name := "publicNumber", desc := "(I)I" } : Jvm.MethodName) prog_1_method_56_code (1 : Nat) (Option.some Jvm.ClassFile.FieldType.int)) ∈ lw_all := lw_g (lw_at lw_m3 161 rfl) rfl
theorem q701 : (Jvm.Cond.methodLink "Burrowline" (336 : Nat) ({ cls := "Burrowline", name := "secretOf", desc := "(I)I" } : Jvm.MethodName)) ∈ lw_all := lw_g (lw_at lw_m3 162 rfl) rfl
theorem q702 : (Jvm.Cond.static ({ cls := "Burrowline", name := "secretOf", desc := "(I)I" } : Jvm.MethodName)) ∈ lw_all := lw_g (lw_at lw_m3 163 rfl) rfl
theorem q703 : (Jvm.Cond.code ({ cls := "Burrowline", name := "secretOf", desc := "(I)I" } : Jvm.MethodName) prog_1_method_55_code (1 : Nat) (Option.some Jvm.ClassFile.FieldType.int)) ∈ lw_all := lw_g (lw_at lw_m3 164 rfl) rfl
theorem q704 : (Jvm.Cond.methodLink "Burrowline" (325 : Nat) ({ cls := "Burrowline", name := "mix", desc := "([I)I" } : Jvm.MethodName)) ∈ lw_all := lw_g (lw_at lw_m3 165 rfl) rfl
theorem q705 : (Jvm.Cond.static ({ cls := "Burrowline", name := "mix", desc := "([I)I" } : Jvm.MethodName)) ∈ lw_all := lw_g (lw_at lw_m3 166 rfl) rfl
theorem q706 : (Jvm.Cond.code ({ cls := "Burrowline", name := "mix", desc := "([I)I" } : Jvm.MethodName) prog_1_method_59_code (6 : Nat) (Option.some Jvm.ClassFile.FieldType.int)) ∈ lw_all := lw_g (lw_at lw_m3 167 rfl) rfl
theorem q707 : (Jvm.Cond.methodLink "Burrowline" (247 : Nat) ({ cls := "Burrowline", name := "hasCookie", desc := "(LBurrowline$Side;)Z" } : Jvm.MethodName)) ∈ lw_all := lw_g (lw_at lw_m3 168 rfl) rfl
theorem q708 : (Jvm.Cond.privateMethod ({ cls := "Burrowline", name := "hasCookie", desc := "(LBurrowline$Side;)Z" } : Jvm.MethodName)) ∈ lw_tbl := lw_at lw_m3 169 rfl
theorem q709 : (Jvm.Cond.instanceMethod ({ cls := "Burrowline", name := "hasCookie", desc := "(LBurrowline$Side;)Z" } : Jvm.MethodName)) ∈ lw_all := lw_g (lw_at lw_m3 170 rfl) rfl
theorem q710 : (Jvm.Cond.code ({ cls := "Burrowline", name := "hasCookie", desc := "(LBurrowline$Side;)Z" } : Jvm.MethodName) prog_1_method_53_code (2 : Nat) (Option.some Jvm.ClassFile.FieldType.boolean)) ∈ lw_all := lw_g (lw_at lw_m3 171 rfl) rfl
theorem q711 : (Jvm.Cond.classLink "Burrowline" (151 : Nat) "Burrowline$Flight") ∈ lw_all := lw_g (lw_at lw_m3 172 rfl) rfl
theorem q713 : (Jvm.Cond.methodLinkNest "Burrowline" (383 : Nat) ({ cls := "Burrowline$Flight", name := "<init>", desc := "(IIIII)V" } : Jvm.MethodName) "Burrowline") ∈ lw_tbl := lw_at lw_m3 174 rfl
theorem q718 : (Jvm.Cond.fieldLinkNest "Burrowline" (150 : Nat) "Burrowline$Flight" "index" "I" "Burrowline") ∈ lw_tbl := lw_at lw_m3 179 rfl
theorem q720 : (Jvm.Cond.fieldLinkNest "Burrowline" (356 : Nat) "Burrowline$Flight" "secret" "I" "Burrowline") ∈ lw_tbl := lw_at lw_m3 181 rfl
theorem q722 : (Jvm.Cond.fieldLinkNest "Burrowline" (353 : Nat) "Burrowline$Flight" "key" "I" "Burrowline") ∈ lw_tbl := lw_at lw_m3 183 rfl
theorem q724 : (Jvm.Cond.fieldLinkNest "Burrowline" (364 : Nat) "Burrowline$Flight" "tag" "I" "Burrowline") ∈ lw_tbl := lw_at lw_m3 185 rfl
theorem q726 : (Jvm.Cond.fieldLinkNest "Burrowline" (392 : Nat) "Burrowline$Flight" "at" "I" "Burrowline") ∈ lw_tbl := lw_at lw_m3 187 rfl
theorem q738 : (Jvm.Cond.methodLinkNest "Burrowline" (137 : Nat) ({ cls := "Burrowline$Side", name := "wait", desc := "(III)V" } : Jvm.MethodName) "Burrowline") ∈ lw_tbl := lw_at lw_m3 199 rfl
theorem q750 : (Jvm.Cond.instanceMethod ({ cls := "Burrowline", name := "keep", desc := "(II)Z" } : Jvm.MethodName)) ∈ lw_all := lw_g (lw_at lw_m3 211 rfl) rfl
theorem q751 : (Jvm.Cond.selects "Burrowline" ({ cls := "Burrowline", name := "keep", desc := "(II)Z" } : Jvm.MethodName) ({ cls := "Burrowline", name := "keep", desc := "(II)Z" } : Jvm.MethodName)) ∈ lw_all := lw_g (lw_at lw_m3 212 rfl) rfl
theorem q752 : (Jvm.Cond.code ({ cls := "Burrowline", name := "keep", desc := "(II)Z" } : Jvm.MethodName) prog_1_method_8_code (3 : Nat) (Option.some Jvm.ClassFile.FieldType.boolean)) ∈ lw_all := lw_g (lw_at lw_m3 213 rfl) rfl
theorem q753 : (Jvm.Cond.methodLink "Burrowline" (141 : Nat) ({ cls := "Burrowline", name := "checkPeer", desc := "(II)V" } : Jvm.MethodName)) ∈ lw_all := lw_g (lw_at lw_m3 214 rfl) rfl
theorem q754 : (Jvm.Cond.static ({ cls := "Burrowline", name := "checkPeer", desc := "(II)V" } : Jvm.MethodName)) ∈ lw_all := lw_g (lw_at lw_m3 215 rfl) rfl
theorem q755 : (Jvm.Cond.code ({ cls := "Burrowline", name := "checkPeer", desc := "(II)V" } : Jvm.MethodName) prog_1_method_64_code (2 : Nat) (Option.none : Option Jvm.ClassFile.FieldType)) ∈ lw_all := lw_g (lw_at lw_m3 216 rfl) rfl
theorem q756 : (Jvm.Cond.stringRef "Burrowline" (407 : Nat) "peer") ∈ lw_tbl := lw_at lw_m3 217 rfl
theorem q761 : (Jvm.Cond.instanceMethod ({ cls := "Burrowline", name := "greet", desc := "(II)I" } : Jvm.MethodName)) ∈ lw_all := lw_g (lw_at lw_m3 222 rfl) rfl
theorem q762 : (Jvm.Cond.selects "Burrowline" ({ cls := "Burrowline", name := "greet", desc := "(II)I" } : Jvm.MethodName) ({ cls := "Burrowline", name := "greet", desc := "(II)I" } : Jvm.MethodName)) ∈ lw_all := lw_g (lw_at lw_m3 223 rfl) rfl
theorem q763 : (Jvm.Cond.code ({ cls := "Burrowline", name := "greet", desc := "(II)I" } : Jvm.MethodName) prog_1_method_9_code (3 : Nat) (Option.some Jvm.ClassFile.FieldType.int)) ∈ lw_all := lw_g (lw_at lw_m3 224 rfl) rfl
theorem q764 : (Jvm.Cond.stringRef "Burrowline" (144 : Nat) "fresh") ∈ lw_tbl := lw_at lw_m3 225 rfl
theorem q769 : (Jvm.Cond.instanceMethod ({ cls := "Burrowline", name := "deliver", desc := "(I)I" } : Jvm.MethodName)) ∈ lw_all := lw_g (lw_at lw_m3 230 rfl) rfl
theorem q770 : (Jvm.Cond.selects "Burrowline" ({ cls := "Burrowline", name := "deliver", desc := "(I)I" } : Jvm.MethodName) ({ cls := "Burrowline", name := "deliver", desc := "(I)I" } : Jvm.MethodName)) ∈ lw_all := lw_g (lw_at lw_m3 231 rfl) rfl
theorem q771 : (Jvm.Cond.code ({ cls := "Burrowline", name := "deliver", desc := "(I)I" } : Jvm.MethodName) prog_1_method_10_code (5 : Nat) (Option.some Jvm.ClassFile.FieldType.int)) ∈ lw_all := lw_g (lw_at lw_m3 232 rfl) rfl
theorem q772 : (Jvm.Cond.methodLink "Burrowline" (155 : Nat) ({ cls := "Burrowline", name := "checkLetter", desc := "(I)V" } : Jvm.MethodName)) ∈ lw_all := lw_g (lw_at lw_m3 233 rfl) rfl
theorem q773 : (Jvm.Cond.privateMethod ({ cls := "Burrowline", name := "checkLetter", desc := "(I)V" } : Jvm.MethodName)) ∈ lw_tbl := lw_at lw_m3 234 rfl
theorem q774 : (Jvm.Cond.instanceMethod ({ cls := "Burrowline", name := "checkLetter", desc := "(I)V" } : Jvm.MethodName)) ∈ lw_all := lw_g (lw_at lw_m3 235 rfl) rfl
theorem q775 : (Jvm.Cond.code ({ cls := "Burrowline", name := "checkLetter", desc := "(I)V" } : Jvm.MethodName) prog_1_method_65_code (2 : Nat) (Option.none : Option Jvm.ClassFile.FieldType)) ∈ lw_all := lw_g (lw_at lw_m3 236 rfl) rfl
theorem q776 : (Jvm.Cond.stringRef "Burrowline" (408 : Nat) "letter") ∈ lw_tbl := lw_at lw_m3 237 rfl
theorem q777 : (Jvm.Cond.methodLink "Burrowline" (158 : Nat) ({ cls := "java/util/ArrayList", name := "remove", desc := "(I)Ljava/lang/Object;" } : Jvm.MethodName)) ∈ lw_all := lw_g (lw_at lw_m3 238 rfl) rfl
theorem q786 : (Jvm.Cond.methodLink "Burrowline" (167 : Nat) ({ cls := "Burrowline", name := "receive", desc := "(ILBurrowline$Letter;)I" } : Jvm.MethodName)) ∈ lw_all := lw_g (lw_at lw_m4 7 rfl) rfl
theorem q787 : (Jvm.Cond.privateMethod ({ cls := "Burrowline", name := "receive", desc := "(ILBurrowline$Letter;)I" } : Jvm.MethodName)) ∈ lw_tbl := lw_at lw_m4 8 rfl
theorem q788 : (Jvm.Cond.instanceMethod ({ cls := "Burrowline", name := "receive", desc := "(ILBurrowline$Letter;)I" } : Jvm.MethodName)) ∈ lw_all := lw_g (lw_at lw_m4 9 rfl) rfl
theorem q789 : (Jvm.Cond.code ({ cls := "Burrowline", name := "receive", desc := "(ILBurrowline$Letter;)I" } : Jvm.MethodName) prog_1_method_39_code (3 : Nat) (Option.some Jvm.ClassFile.FieldType.int)) ∈ lw_all := lw_g (lw_at lw_m4 10 rfl) rfl
theorem q790 : (Jvm.Cond.methodLink "Burrowline" (310 : Nat) ({ cls := "Burrowline", name := "receiveHello", desc := "(ILBurrowline$Letter;)I" } : Jvm.MethodName)) ∈ lw_all := lw_g (lw_at lw_m4 11 rfl) rfl
theorem q791 : (Jvm.Cond.privateMethod ({ cls := "Burrowline", name := "receiveHello", desc := "(ILBurrowline$Letter;)I" } : Jvm.MethodName)) ∈ lw_tbl := lw_at lw_m4 12 rfl
theorem q792 : (Jvm.Cond.instanceMethod ({ cls := "Burrowline", name := "receiveHello", desc := "(ILBurrowline$Letter;)I" } : Jvm.MethodName)) ∈ lw_all := lw_g (lw_at lw_m4 13 rfl) rfl
theorem q793 : (Jvm.Cond.code ({ cls := "Burrowline", name := "receiveHello", desc := "(ILBurrowline$Letter;)I" } : Jvm.MethodName) prog_1_method_40_code (10 : Nat) (Option.some Jvm.ClassFile.FieldType.int)) ∈ lw_all := lw_g (lw_at lw_m4 14 rfl) rfl
theorem q794 : (Jvm.Cond.methodLink "Burrowline" (322 : Nat) ({ cls := "Burrowline", name := "cookieOf", desc := "(II)I" } : Jvm.MethodName)) ∈ lw_all := lw_g (lw_at lw_m4 15 rfl) rfl
theorem q795 : (Jvm.Cond.privateMethod ({ cls := "Burrowline", name := "cookieOf", desc := "(II)I" } : Jvm.MethodName)) ∈ lw_tbl := lw_at lw_m4 16 rfl
theorem q796 : (Jvm.Cond.instanceMethod ({ cls := "Burrowline", name := "cookieOf", desc := "(II)I" } : Jvm.MethodName)) ∈ lw_all := lw_g (lw_at lw_m4 17 rfl) rfl
theorem q797 : (Jvm.Cond.code ({ cls := "Burrowline", name := "cookieOf", desc := "(II)I" } : Jvm.MethodName) prog_1_method_54_code (3 : Nat) (Option.some Jvm.ClassFile.FieldType.int)) ∈ lw_all := lw_g (lw_at lw_m4 18 rfl) rfl
theorem q798 : (Jvm.Cond.methodLinkNest "Burrowline" (345 : Nat) ({ cls := "Burrowline$Session", name := "<init>", desc := "(IIIIIZ)V" } : Jvm.MethodName) "Burrowline") ∈ lw_tbl := lw_at lw_m4 19 rfl
theorem q803 : (Jvm.Cond.fieldLinkNest "Burrowline" (228 : Nat) "Burrowline$Session" "index" "I" "Burrowline") ∈ lw_tbl := lw_at lw_m4 24 rfl
theorem q805 : (Jvm.Cond.fieldLinkNest "Burrowline" (229 : Nat) "Burrowline$Session" "other" "I" "Burrowline") ∈ lw_tbl := lw_at lw_m4 26 rfl
theorem q807 : (Jvm.Cond.fieldLinkNest "Burrowline" (391 : Nat) "Burrowline$Session" "made" "I" "Burrowline") ∈ lw_tbl := lw_at lw_m4 28 rfl
theorem q809 : (Jvm.Cond.fieldLinkNest "Burrowline" (238 : Nat) "Burrowline$Session" "sending" "I" "Burrowline") ∈ lw_tbl := lw_at lw_m4 30 rfl
theorem q811 : (Jvm.Cond.fieldLinkNest "Burrowline" (241 : Nat) "Burrowline$Session" "receiving" "I" "Burrowline") ∈ lw_tbl := lw_at lw_m4 32 rfl
theorem q813 : (Jvm.Cond.fieldLinkNest "Burrowline" (116 : Nat) "Burrowline$Session" "isBegun" "Z" "Burrowline") ∈ lw_tbl := lw_at lw_m4 34 rfl
theorem q816 : (Jvm.Cond.fieldLinkNest "Burrowline" (126 : Nat) "Burrowline$Session" "sealed" "I" "Burrowline") ∈ lw_tbl := lw_at lw_m4 37 rfl
theorem q818 : (Jvm.Cond.fieldLinkNest "Burrowline" (232 : Nat) "Burrowline$Session" "greatest" "I" "Burrowline") ∈ lw_tbl := lw_at lw_m4 39 rfl
theorem q820 : (Jvm.Cond.fieldLinkNest "Burrowline" (235 : Nat) "Burrowline$Session" "took" "I" "Burrowline") ∈ lw_tbl := lw_at lw_m4 41 rfl
theorem q842 : (Jvm.Cond.methodLink "Burrowline" (313 : Nat) ({ cls := "Burrowline", name := "receiveReply", desc := "(ILBurrowline$Letter;)I" } : Jvm.MethodName)) ∈ lw_all := lw_g (lw_at lw_m4 63 rfl) rfl
theorem q843 : (Jvm.Cond.privateMethod ({ cls := "Burrowline", name := "receiveReply", desc := "(ILBurrowline$Letter;)I" } : Jvm.MethodName)) ∈ lw_tbl := lw_at lw_m4 64 rfl
theorem q844 : (Jvm.Cond.instanceMethod ({ cls := "Burrowline", name := "receiveReply", desc := "(ILBurrowline$Letter;)I" } : Jvm.MethodName)) ∈ lw_all := lw_g (lw_at lw_m4 65 rfl) rfl
theorem q845 : (Jvm.Cond.code ({ cls := "Burrowline", name := "receiveReply", desc := "(ILBurrowline$Letter;)I" } : Jvm.MethodName) prog_1_method_41_code (8 : Nat) (Option.some Jvm.ClassFile.FieldType.int)) ∈ lw_all := lw_g (lw_at lw_m4 66 rfl) rfl
theorem q846 : (Jvm.Cond.methodLink "Burrowline" (350 : Nat) ({ cls := "Burrowline", name := "flightTo", desc := "(II)I" } : Jvm.MethodName)) ∈ lw_all := lw_g (lw_at lw_m4 67 rfl) rfl
theorem q847 : (Jvm.Cond.privateMethod ({ cls := "Burrowline", name := "flightTo", desc := "(II)I" } : Jvm.MethodName)) ∈ lw_tbl := lw_at lw_m4 68 rfl
theorem q848 : (Jvm.Cond.instanceMethod ({ cls := "Burrowline", name := "flightTo", desc := "(II)I" } : Jvm.MethodName)) ∈ lw_all := lw_g (lw_at lw_m4 69 rfl) rfl
theorem q849 : (Jvm.Cond.code ({ cls := "Burrowline", name := "flightTo", desc := "(II)I" } : Jvm.MethodName) prog_1_method_45_code (5 : Nat) (Option.some Jvm.ClassFile.FieldType.int)) ∈ lw_all := lw_g (lw_at lw_m4 70 rfl) rfl
theorem q850 : (Jvm.Cond.methodLink "Burrowline" (361 : Nat) ({ cls := "Burrowline", name := "flush", desc := "(II)V" } : Jvm.MethodName)) ∈ lw_all := lw_g (lw_at lw_m4 71 rfl) rfl
theorem q851 : (Jvm.Cond.privateMethod ({ cls := "Burrowline", name := "flush", desc := "(II)V" } : Jvm.MethodName)) ∈ lw_tbl := lw_at lw_m4 72 rfl
theorem q852 : (Jvm.Cond.instanceMethod ({ cls := "Burrowline", name := "flush", desc := "(II)V" } : Jvm.MethodName)) ∈ lw_all := lw_g (lw_at lw_m4 73 rfl) rfl
theorem q853 : (Jvm.Cond.code ({ cls := "Burrowline", name := "flush", desc := "(II)V" } : Jvm.MethodName) prog_1_method_48_code (5 : Nat) (Option.none : Option Jvm.ClassFile.FieldType)) ∈ lw_all := lw_g (lw_at lw_m4 74 rfl) rfl
theorem q854 : (Jvm.Cond.methodLinkNest "Burrowline" (385 : Nat) ({ cls := "Burrowline$Side", name := "first", desc := "()[I" } : Jvm.MethodName) "Burrowline") ∈ lw_tbl := lw_at lw_m4 75 rfl
theorem q855 : (Jvm.Cond.methodLink "Burrowline" (316 : Nat) ({ cls := "Burrowline", name := "receiveCookie", desc := "(ILBurrowline$Letter;)I" } : Jvm.MethodName)) ∈ lw_all := lw_g (lw_at lw_m4 76 rfl) rfl
theorem q856 : (Jvm.Cond.privateMethod ({ cls := "Burrowline", name := "receiveCookie", desc := "(ILBurrowline$Letter;)I" } : Jvm.MethodName)) ∈ lw_tbl := lw_at lw_m4 77 rfl
theorem q857 : (Jvm.Cond.instanceMethod ({ cls := "Burrowline", name := "receiveCookie", desc := "(ILBurrowline$Letter;)I" } : Jvm.MethodName)) ∈ lw_all := lw_g (lw_at lw_m4 78 rfl) rfl
theorem q858 : (Jvm.Cond.code ({ cls := "Burrowline", name := "receiveCookie", desc := "(ILBurrowline$Letter;)I" } : Jvm.MethodName) prog_1_method_42_code (6 : Nat) (Option.some Jvm.ClassFile.FieldType.int)) ∈ lw_all := lw_g (lw_at lw_m4 79 rfl) rfl
theorem q859 : (Jvm.Cond.methodLink "Burrowline" (319 : Nat) ({ cls := "Burrowline", name := "receiveData", desc := "(ILBurrowline$Letter;)I" } : Jvm.MethodName)) ∈ lw_all := lw_g (lw_at lw_m4 80 rfl) rfl
theorem q860 : (Jvm.Cond.privateMethod ({ cls := "Burrowline", name := "receiveData", desc := "(ILBurrowline$Letter;)I" } : Jvm.MethodName)) ∈ lw_tbl := lw_at lw_m4 81 rfl
theorem q861 : (Jvm.Cond.instanceMethod ({ cls := "Burrowline", name := "receiveData", desc := "(ILBurrowline$Letter;)I" } : Jvm.MethodName)) ∈ lw_all := lw_g (lw_at lw_m4 82 rfl) rfl
theorem q862 : (Jvm.Cond.code ({ cls := "Burrowline", name := "receiveData", desc := "(ILBurrowline$Letter;)I" } : Jvm.MethodName) prog_1_method_43_code (7 : Nat) (Option.some Jvm.ClassFile.FieldType.int)) ∈ lw_all := lw_g (lw_at lw_m4 83 rfl) rfl
theorem q863 : (Jvm.Cond.methodLink "Burrowline" (370 : Nat) ({ cls := "Burrowline", name := "receiveBy", desc := "(IIILBurrowline$Session;LBurrowline$Letter;)I" } : Jvm.MethodName)) ∈ lw_all := lw_g (lw_at lw_m4 84 rfl) rfl
theorem q864 : (Jvm.Cond.privateMethod ({ cls := "Burrowline", name := "receiveBy", desc := "(IIILBurrowline$Session;LBurrowline$Letter;)I" } : Jvm.MethodName)) ∈ lw_tbl := lw_at lw_m4 85 rfl
theorem q865 : (Jvm.Cond.instanceMethod ({ cls := "Burrowline", name := "receiveBy", desc := "(IIILBurrowline$Session;LBurrowline$Letter;)I" } : Jvm.MethodName)) ∈ lw_all := lw_g (lw_at lw_m4 86 rfl) rfl
theorem q866 : (Jvm.Cond.code ({ cls := "Burrowline", name := "receiveBy", desc := "(IIILBurrowline$Session;LBurrowline$Letter;)I" } : Jvm.MethodName) prog_1_method_44_code (8 : Nat) (Option.some Jvm.ClassFile.FieldType.int)) ∈ lw_all := lw_g (lw_at lw_m4 87 rfl) rfl
theorem q867 : (Jvm.Cond.methodLinkNest "Burrowline" (374 : Nat) ({ cls := "Burrowline$Session", name := "mayTake", desc := "(I)Z" } : Jvm.MethodName) "Burrowline") ∈ lw_tbl := lw_at lw_m4 88 rfl
theorem q871 : (Jvm.Cond.methodLinkNest "Burrowline" (377 : Nat) ({ cls := "Burrowline$Session", name := "take", desc := "(I)V" } : Jvm.MethodName) "Burrowline") ∈ lw_tbl := lw_at lw_m4 92 rfl
theorem q880 : (Jvm.Cond.instanceMethod ({ cls := "Burrowline", name := "lose", desc := "(I)I" } : Jvm.MethodName)) ∈ lw_all := lw_g (lw_at lw_m4 101 rfl) rfl
theorem q881 : (Jvm.Cond.selects "Burrowline" ({ cls := "Burrowline", name := "lose", desc := "(I)I" } : Jvm.MethodName) ({ cls := "Burrowline", name := "lose", desc := "(I)I" } : Jvm.MethodName)) ∈ lw_all := lw_g (lw_at lw_m4 102 rfl) rfl
theorem q882 : (Jvm.Cond.code ({ cls := "Burrowline", name := "lose", desc := "(I)I" } : Jvm.MethodName) prog_1_method_11_code (2 : Nat) (Option.some Jvm.ClassFile.FieldType.int)) ∈ lw_all := lw_g (lw_at lw_m4 103 rfl) rfl
theorem q887 : (Jvm.Cond.instanceMethod ({ cls := "Burrowline", name := "twice", desc := "(I)I" } : Jvm.MethodName)) ∈ lw_all := lw_g (lw_at lw_m4 108 rfl) rfl
theorem q888 : (Jvm.Cond.selects "Burrowline" ({ cls := "Burrowline", name := "twice", desc := "(I)I" } : Jvm.MethodName) ({ cls := "Burrowline", name := "twice", desc := "(I)I" } : Jvm.MethodName)) ∈ lw_all := lw_g (lw_at lw_m4 109 rfl) rfl
theorem q889 : (Jvm.Cond.code ({ cls := "Burrowline", name := "twice", desc := "(I)I" } : Jvm.MethodName) prog_1_method_12_code (2 : Nat) (Option.some Jvm.ClassFile.FieldType.int)) ∈ lw_all := lw_g (lw_at lw_m4 110 rfl) rfl
theorem q890 : (Jvm.Cond.methodLinkNest "Burrowline" (181 : Nat) ({ cls := "Burrowline$Letter", name := "<init>", desc := "(LBurrowline$Letter;)V" } : Jvm.MethodName) "Burrowline") ∈ lw_tbl := lw_at lw_m4 111 rfl
theorem q898 : (Jvm.Cond.instanceMethod ({ cls := "Burrowline", name := "turn", desc := "(III)I" } : Jvm.MethodName)) ∈ lw_all := lw_g (lw_at lw_m4 119 rfl) rfl
theorem q899 : (Jvm.Cond.selects "Burrowline" ({ cls := "Burrowline", name := "turn", desc := "(III)I" } : Jvm.MethodName) ({ cls := "Burrowline", name := "turn", desc := "(III)I" } : Jvm.MethodName)) ∈ lw_all := lw_g (lw_at lw_m4 120 rfl) rfl
theorem q900 : (Jvm.Cond.code ({ cls := "Burrowline", name := "turn", desc := "(III)I" } : Jvm.MethodName) prog_1_method_13_code (5 : Nat) (Option.some Jvm.ClassFile.FieldType.int)) ∈ lw_all := lw_g (lw_at lw_m4 121 rfl) rfl
theorem q901 : (Jvm.Cond.methodLinkNest "Burrowline" (184 : Nat) ({ cls := "Burrowline$Letter", name := "mayTurn", desc := "(I)Z" } : Jvm.MethodName) "Burrowline") ∈ lw_tbl := lw_at lw_m4 122 rfl
theorem q905 : (Jvm.Cond.methodLink "Burrowline" (197 : Nat) ({ cls := "java/lang/Math", name := "abs", desc := "(I)I" } : Jvm.MethodName)) ∈ lw_all := lw_g (lw_at lw_m4 126 rfl) rfl
theorem q908 : (Jvm.Cond.stringRef "Burrowline" (202 : Nat) "turn") ∈ lw_tbl := lw_at lw_m4 129 rfl
theorem q909 : (Jvm.Cond.stringRef "Burrowline" (204 : Nat) "another field") ∈ lw_tbl := lw_at lw_m4 130 rfl
theorem q914 : (Jvm.Cond.instanceMethod ({ cls := "Burrowline", name := "reroute", desc := "(II)I" } : Jvm.MethodName)) ∈ lw_all := lw_g (lw_at lw_m4 135 rfl) rfl
theorem q915 : (Jvm.Cond.selects "Burrowline" ({ cls := "Burrowline", name := "reroute", desc := "(II)I" } : Jvm.MethodName) ({ cls := "Burrowline", name := "reroute", desc := "(II)I" } : Jvm.MethodName)) ∈ lw_all := lw_g (lw_at lw_m4 136 rfl) rfl
theorem q916 : (Jvm.Cond.code ({ cls := "Burrowline", name := "reroute", desc := "(II)I" } : Jvm.MethodName) prog_1_method_14_code (5 : Nat) (Option.some Jvm.ClassFile.FieldType.int)) ∈ lw_all := lw_g (lw_at lw_m4 137 rfl) rfl
theorem q921 : (Jvm.Cond.instanceMethod ({ cls := "Burrowline", name := "later", desc := "(I)I" } : Jvm.MethodName)) ∈ lw_all := lw_g (lw_at lw_m4 142 rfl) rfl
theorem q922 : (Jvm.Cond.selects "Burrowline" ({ cls := "Burrowline", name := "later", desc := "(I)I" } : Jvm.MethodName) ({ cls := "Burrowline", name := "later", desc := "(I)I" } : Jvm.MethodName)) ∈ lw_all := lw_g (lw_at lw_m4 143 rfl) rfl
theorem q923 : (Jvm.Cond.code ({ cls := "Burrowline", name := "later", desc := "(I)I" } : Jvm.MethodName) prog_1_method_15_code (2 : Nat) (Option.some Jvm.ClassFile.FieldType.int)) ∈ lw_all := lw_g (lw_at lw_m4 144 rfl) rfl
theorem q928 : (Jvm.Cond.instanceMethod ({ cls := "Burrowline", name := "letter", desc := "(II)I" } : Jvm.MethodName)) ∈ lw_all := lw_g (lw_at lw_m4 149 rfl) rfl
theorem q929 : (Jvm.Cond.selects "Burrowline" ({ cls := "Burrowline", name := "letter", desc := "(II)I" } : Jvm.MethodName) ({ cls := "Burrowline", name := "letter", desc := "(II)I" } : Jvm.MethodName)) ∈ lw_all := lw_g (lw_at lw_m4 150 rfl) rfl
theorem q930 : (Jvm.Cond.code ({ cls := "Burrowline", name := "letter", desc := "(II)I" } : Jvm.MethodName) prog_1_method_18_code (3 : Nat) (Option.some Jvm.ClassFile.FieldType.int)) ∈ lw_all := lw_g (lw_at lw_m4 151 rfl) rfl
theorem q931 : (Jvm.Cond.stringRef "Burrowline" (209 : Nat) "what") ∈ lw_tbl := lw_at lw_m4 152 rfl
theorem q936 : (Jvm.Cond.instanceMethod ({ cls := "Burrowline", name := "isTurned", desc := "(I)Z" } : Jvm.MethodName)) ∈ lw_all := lw_g (lw_at lw_m4 157 rfl) rfl
theorem q937 : (Jvm.Cond.selects "Burrowline" ({ cls := "Burrowline", name := "isTurned", desc := "(I)Z" } : Jvm.MethodName) ({ cls := "Burrowline", name := "isTurned", desc := "(I)Z" } : Jvm.MethodName)) ∈ lw_all := lw_g (lw_at lw_m4 158 rfl) rfl
theorem q938 : (Jvm.Cond.code ({ cls := "Burrowline", name := "isTurned", desc := "(I)Z" } : Jvm.MethodName) prog_1_method_19_code (2 : Nat) (Option.some Jvm.ClassFile.FieldType.boolean)) ∈ lw_all := lw_g (lw_at lw_m4 159 rfl) rfl
theorem q943 : (Jvm.Cond.instanceMethod ({ cls := "Burrowline", name := "address", desc := "(I)I" } : Jvm.MethodName)) ∈ lw_all := lw_g (lw_at lw_m4 164 rfl) rfl
theorem q944 : (Jvm.Cond.selects "Burrowline" ({ cls := "Burrowline", name := "address", desc := "(I)I" } : Jvm.MethodName) ({ cls := "Burrowline", name := "address", desc := "(I)I" } : Jvm.MethodName)) ∈ lw_all := lw_g (lw_at lw_m4 165 rfl) rfl
theorem q945 : (Jvm.Cond.code ({ cls := "Burrowline", name := "address", desc := "(I)I" } : Jvm.MethodName) prog_1_method_20_code (2 : Nat) (Option.some Jvm.ClassFile.FieldType.int)) ∈ lw_all := lw_g (lw_at lw_m4 166 rfl) rfl
theorem q950 : (Jvm.Cond.instanceMethod ({ cls := "Burrowline", name := "known", desc := "(II)I" } : Jvm.MethodName)) ∈ lw_all := lw_g (lw_at lw_m4 171 rfl) rfl
theorem q951 : (Jvm.Cond.selects "Burrowline" ({ cls := "Burrowline", name := "known", desc := "(II)I" } : Jvm.MethodName) ({ cls := "Burrowline", name := "known", desc := "(II)I" } : Jvm.MethodName)) ∈ lw_all := lw_g (lw_at lw_m4 172 rfl) rfl
theorem q952 : (Jvm.Cond.code ({ cls := "Burrowline", name := "known", desc := "(II)I" } : Jvm.MethodName) prog_1_method_21_code (3 : Nat) (Option.some Jvm.ClassFile.FieldType.int)) ∈ lw_all := lw_g (lw_at lw_m4 173 rfl) rfl
theorem q957 : (Jvm.Cond.instanceMethod ({ cls := "Burrowline", name := "route", desc := "(II)I" } : Jvm.MethodName)) ∈ lw_all := lw_g (lw_at lw_m4 178 rfl) rfl
theorem q958 : (Jvm.Cond.selects "Burrowline" ({ cls := "Burrowline", name := "route", desc := "(II)I" } : Jvm.MethodName) ({ cls := "Burrowline", name := "route", desc := "(II)I" } : Jvm.MethodName)) ∈ lw_all := lw_g (lw_at lw_m4 179 rfl) rfl
theorem q959 : (Jvm.Cond.code ({ cls := "Burrowline", name := "route", desc := "(II)I" } : Jvm.MethodName) prog_1_method_22_code (3 : Nat) (Option.some Jvm.ClassFile.FieldType.int)) ∈ lw_all := lw_g (lw_at lw_m4 180 rfl) rfl
theorem q960 : (Jvm.Cond.stringRef "Burrowline" (221 : Nat) "inner") ∈ lw_tbl := lw_at lw_m4 181 rfl
theorem q965 : (Jvm.Cond.instanceMethod ({ cls := "Burrowline", name := "session", desc := "(IIII)I" } : Jvm.MethodName)) ∈ lw_all := lw_g (lw_at lw_m4 186 rfl) rfl
theorem q966 : (Jvm.Cond.selects "Burrowline" ({ cls := "Burrowline", name := "session", desc := "(IIII)I" } : Jvm.MethodName) ({ cls := "Burrowline", name := "session", desc := "(IIII)I" } : Jvm.MethodName)) ∈ lw_all := lw_g (lw_at lw_m4 187 rfl) rfl
theorem q967 : (Jvm.Cond.code ({ cls := "Burrowline", name := "session", desc := "(IIII)I" } : Jvm.MethodName) prog_1_method_23_code (6 : Nat) (Option.some Jvm.ClassFile.FieldType.int)) ∈ lw_all := lw_g (lw_at lw_m4 188 rfl) rfl
theorem q968 : (Jvm.Cond.stringRef "Burrowline" (223 : Nat) "session") ∈ lw_tbl := lw_at lw_m4 189 rfl
theorem q973 : (Jvm.Cond.instanceMethod ({ cls := "Burrowline", name := "isUsable", desc := "(II)Z" } : Jvm.MethodName)) ∈ lw_all := lw_g (lw_at lw_m4 194 rfl) rfl
theorem q974 : (Jvm.Cond.selects "Burrowline" ({ cls := "Burrowline", name := "isUsable", desc := "(II)Z" } : Jvm.MethodName) ({ cls := "Burrowline", name := "isUsable", desc := "(II)Z" } : Jvm.MethodName)) ∈ lw_all := lw_g (lw_at lw_m4 195 rfl) rfl
theorem q975 : (Jvm.Cond.code ({ cls := "Burrowline", name := "isUsable", desc := "(II)Z" } : Jvm.MethodName) prog_1_method_24_code (3 : Nat) (Option.some Jvm.ClassFile.FieldType.boolean)) ∈ lw_all := lw_g (lw_at lw_m4 196 rfl) rfl
theorem q980 : (Jvm.Cond.instanceMethod ({ cls := "Burrowline", name := "flight", desc := "(II)I" } : Jvm.MethodName)) ∈ lw_all := lw_g (lw_at lw_m4 201 rfl) rfl
theorem q981 : (Jvm.Cond.selects "Burrowline" ({ cls := "Burrowline", name := "flight", desc := "(II)I" } : Jvm.MethodName) ({ cls := "Burrowline", name := "flight", desc := "(II)I" } : Jvm.MethodName)) ∈ lw_all := lw_g (lw_at lw_m4 202 rfl) rfl
theorem q982 : (Jvm.Cond.code ({ cls := "Burrowline", name := "flight", desc := "(II)I" } : Jvm.MethodName) prog_1_method_25_code (4 : Nat) (Option.some Jvm.ClassFile.FieldType.int)) ∈ lw_all := lw_g (lw_at lw_m4 203 rfl) rfl
theorem q987 : (Jvm.Cond.instanceMethod ({ cls := "Burrowline", name := "waiting", desc := "(II)I" } : Jvm.MethodName)) ∈ lw_all := lw_g (lw_at lw_m4 208 rfl) rfl
theorem q988 : (Jvm.Cond.selects "Burrowline" ({ cls := "Burrowline", name := "waiting", desc := "(II)I" } : Jvm.MethodName) ({ cls := "Burrowline", name := "waiting", desc := "(II)I" } : Jvm.MethodName)) ∈ lw_all := lw_g (lw_at lw_m4 209 rfl) rfl
theorem q989 : (Jvm.Cond.code ({ cls := "Burrowline", name := "waiting", desc := "(II)I" } : Jvm.MethodName) prog_1_method_26_code (3 : Nat) (Option.some Jvm.ClassFile.FieldType.int)) ∈ lw_all := lw_g (lw_at lw_m4 210 rfl) rfl
theorem q994 : (Jvm.Cond.instanceMethod ({ cls := "Burrowline", name := "cookie", desc := "(II)I" } : Jvm.MethodName)) ∈ lw_all := lw_g (lw_at lw_m4 215 rfl) rfl
theorem q995 : (Jvm.Cond.selects "Burrowline" ({ cls := "Burrowline", name := "cookie", desc := "(II)I" } : Jvm.MethodName) ({ cls := "Burrowline", name := "cookie", desc := "(II)I" } : Jvm.MethodName)) ∈ lw_all := lw_g (lw_at lw_m4 216 rfl) rfl
theorem q996 : (Jvm.Cond.code ({ cls := "Burrowline", name := "cookie", desc := "(II)I" } : Jvm.MethodName) prog_1_method_27_code (4 : Nat) (Option.some Jvm.ClassFile.FieldType.int)) ∈ lw_all := lw_g (lw_at lw_m4 217 rfl) rfl
theorem q1001 : (Jvm.Cond.instanceMethod ({ cls := "Burrowline", name := "stamp", desc := "(IIZ)I" } : Jvm.MethodName)) ∈ lw_all := lw_g (lw_at lw_m4 222 rfl) rfl
theorem q1002 : (Jvm.Cond.selects "Burrowline" ({ cls := "Burrowline", name := "stamp", desc := "(IIZ)I" } : Jvm.MethodName) ({ cls := "Burrowline", name := "stamp", desc := "(IIZ)I" } : Jvm.MethodName)) ∈ lw_all := lw_g (lw_at lw_m4 223 rfl) rfl
theorem q1003 : (Jvm.Cond.code ({ cls := "Burrowline", name := "stamp", desc := "(IIZ)I" } : Jvm.MethodName) prog_1_method_28_code (5 : Nat) (Option.some Jvm.ClassFile.FieldType.int)) ∈ lw_all := lw_g (lw_at lw_m4 224 rfl) rfl
theorem q1008 : (Jvm.Cond.instanceMethod ({ cls := "Burrowline", name := "outs", desc := "(I)I" } : Jvm.MethodName)) ∈ lw_all := lw_g (lw_at lw_m4 229 rfl) rfl
theorem q1009 : (Jvm.Cond.selects "Burrowline" ({ cls := "Burrowline", name := "outs", desc := "(I)I" } : Jvm.MethodName) ({ cls := "Burrowline", name := "outs", desc := "(I)I" } : Jvm.MethodName)) ∈ lw_all := lw_g (lw_at lw_m4 230 rfl) rfl
theorem q1010 : (Jvm.Cond.code ({ cls := "Burrowline", name := "outs", desc := "(I)I" } : Jvm.MethodName) prog_1_method_29_code (2 : Nat) (Option.some Jvm.ClassFile.FieldType.int)) ∈ lw_all := lw_g (lw_at lw_m4 231 rfl) rfl
theorem q1015 : (Jvm.Cond.instanceMethod ({ cls := "Burrowline", name := "out", desc := "(III)I" } : Jvm.MethodName)) ∈ lw_all := lw_g (lw_at lw_m4 236 rfl) rfl
theorem q1016 : (Jvm.Cond.selects "Burrowline" ({ cls := "Burrowline", name := "out", desc := "(III)I" } : Jvm.MethodName) ({ cls := "Burrowline", name := "out", desc := "(III)I" } : Jvm.MethodName)) ∈ lw_all := lw_g (lw_at lw_m4 237 rfl) rfl
theorem q1017 : (Jvm.Cond.code ({ cls := "Burrowline", name := "out", desc := "(III)I" } : Jvm.MethodName) prog_1_method_30_code (4 : Nat) (Option.some Jvm.ClassFile.FieldType.int)) ∈ lw_all := lw_g (lw_at lw_m4 238 rfl) rfl
theorem q1018 : (Jvm.Cond.stringRef "Burrowline" (261 : Nat) "place") ∈ lw_tbl := lw_at lw_m4 239 rfl
theorem q1023 : (Jvm.Cond.instanceMethod ({ cls := "Burrowline", name := "drops", desc := "(I)I" } : Jvm.MethodName)) ∈ lw_all := lw_g (lw_at lw_m5 4 rfl) rfl
theorem q1024 : (Jvm.Cond.selects "Burrowline" ({ cls := "Burrowline", name := "drops", desc := "(I)I" } : Jvm.MethodName) ({ cls := "Burrowline", name := "drops", desc := "(I)I" } : Jvm.MethodName)) ∈ lw_all := lw_g (lw_at lw_m5 5 rfl) rfl
theorem q1025 : (Jvm.Cond.code ({ cls := "Burrowline", name := "drops", desc := "(I)I" } : Jvm.MethodName) prog_1_method_31_code (2 : Nat) (Option.some Jvm.ClassFile.FieldType.int)) ∈ lw_all := lw_g (lw_at lw_m5 6 rfl) rfl
theorem q1026 : (Jvm.Cond.stringRef "Burrowline" (264 : Nat) "code") ∈ lw_tbl := lw_at lw_m5 7 rfl
theorem q1031 : (Jvm.Cond.instanceMethod ({ cls := "Burrowline", name := "publicOf", desc := "(I)I" } : Jvm.MethodName)) ∈ lw_all := lw_g (lw_at lw_m5 12 rfl) rfl
theorem q1032 : (Jvm.Cond.selects "Burrowline" ({ cls := "Burrowline", name := "publicOf", desc := "(I)I" } : Jvm.MethodName) ({ cls := "Burrowline", name := "publicOf", desc := "(I)I" } : Jvm.MethodName)) ∈ lw_all := lw_g (lw_at lw_m5 13 rfl) rfl
theorem q1033 : (Jvm.Cond.code ({ cls := "Burrowline", name := "publicOf", desc := "(I)I" } : Jvm.MethodName) prog_1_method_32_code (2 : Nat) (Option.some Jvm.ClassFile.FieldType.int)) ∈ lw_all := lw_g (lw_at lw_m5 14 rfl) rfl
theorem q1034 : (Jvm.Cond.constant "Burrowline" (266 : Nat) (1000000 : Int32)) ∈ lw_all := lw_g (lw_at lw_m5 15 rfl) rfl
theorem q1035 : (Jvm.Cond.stringRef "Burrowline" (267 : Nat) "secret") ∈ lw_tbl := lw_at lw_m5 16 rfl
theorem q1040 : (Jvm.Cond.instanceMethod ({ cls := "Burrowline", name := "shared", desc := "(II)I" } : Jvm.MethodName)) ∈ lw_all := lw_g (lw_at lw_m5 21 rfl) rfl
theorem q1041 : (Jvm.Cond.selects "Burrowline" ({ cls := "Burrowline", name := "shared", desc := "(II)I" } : Jvm.MethodName) ({ cls := "Burrowline", name := "shared", desc := "(II)I" } : Jvm.MethodName)) ∈ lw_all := lw_g (lw_at lw_m5 22 rfl) rfl
theorem q1042 : (Jvm.Cond.code ({ cls := "Burrowline", name := "shared", desc := "(II)I" } : Jvm.MethodName) prog_1_method_33_code (3 : Nat) (Option.some Jvm.ClassFile.FieldType.int)) ∈ lw_all := lw_g (lw_at lw_m5 23 rfl) rfl
theorem q1043 : (Jvm.Cond.stringRef "Burrowline" (272 : Nat) "shared") ∈ lw_tbl := lw_at lw_m5 24 rfl
theorem q1048 : (Jvm.Cond.instanceMethod ({ cls := "Burrowline", name := "seal", desc := "(IIII)I" } : Jvm.MethodName)) ∈ lw_all := lw_g (lw_at lw_m5 29 rfl) rfl
theorem q1049 : (Jvm.Cond.selects "Burrowline" ({ cls := "Burrowline", name := "seal", desc := "(IIII)I" } : Jvm.MethodName) ({ cls := "Burrowline", name := "seal", desc := "(IIII)I" } : Jvm.MethodName)) ∈ lw_all := lw_g (lw_at lw_m5 30 rfl) rfl
theorem q1050 : (Jvm.Cond.code ({ cls := "Burrowline", name := "seal", desc := "(IIII)I" } : Jvm.MethodName) prog_1_method_34_code (5 : Nat) (Option.some Jvm.ClassFile.FieldType.int)) ∈ lw_all := lw_g (lw_at lw_m5 31 rfl) rfl
theorem q1051 : (Jvm.Cond.constant "Burrowline" (274 : Nat) (65520 : Int32)) ∈ lw_all := lw_g (lw_at lw_m5 32 rfl) rfl
theorem q1052 : (Jvm.Cond.methodLink "Burrowline" (275 : Nat) ({ cls := "Burrowline", name := "isOut", desc := "(I)Z" } : Jvm.MethodName)) ∈ lw_all := lw_g (lw_at lw_m5 33 rfl) rfl
theorem q1053 : (Jvm.Cond.static ({ cls := "Burrowline", name := "isOut", desc := "(I)Z" } : Jvm.MethodName)) ∈ lw_all := lw_g (lw_at lw_m5 34 rfl) rfl
theorem q1054 : (Jvm.Cond.code ({ cls := "Burrowline", name := "isOut", desc := "(I)Z" } : Jvm.MethodName) prog_1_method_61_code (1 : Nat) (Option.some Jvm.ClassFile.FieldType.boolean)) ∈ lw_all := lw_g (lw_at lw_m5 35 rfl) rfl
theorem q1055 : (Jvm.Cond.stringRef "Burrowline" (278 : Nat) "seal") ∈ lw_tbl := lw_at lw_m5 36 rfl
theorem q1486 : (Jvm.Cond.castable "Burrowline" "java/lang/Object") ∈ lw_tbl := lw_at lw_m6 227 rfl
theorem in_X1 : ∀ w ∈ wsX10, w ∈ lw_all := lw_in wsX10 [273, 275, 277, 279, 281, 283, 285, 287, 289, 291] (by decide +kernel) (by decide +kernel)
/-! Burrowline$Table -/
set_option maxRecDepth 100000
def RX2 : String := "Burrowline$Table"
def TX2 : u_T := fun k => match k with
  | 0 => ("Burrowline$Table", "prefix", "[I", true)
  | 1 => ("Burrowline$Table", "bits", "[I", true)
  | 2 => ("Burrowline$Table", "peer", "[I", true)
  | _ => ("Burrowline$Table", "many", "I", false)
def tyX2 : Nat → FieldType := fun k => match k with
  | 0 => .array .int
  | 1 => .array .int
  | 2 => .array .int
  | _ => .int
abbrev wsX20 : List Cond := u_ws RX2 TX2 4
theorem nmX2 : ∀ a, a < 4 → ∀ b, b < 4 → a ≠ b → (TX2 a).2.1 ≠ (TX2 b).2.1 := by decide +kernel
theorem tyX2_ok : ∀ k, k < 4 → parseFieldDescriptor (TX2 k).2.2.1 = some (tyX2 k) := by decide +kernel
abbrev cX2_init : ByteArray := prog_6_method_1_code
def yX2_init : MethodName := ⟨RX2, "<init>", "()V"⟩
def dkwX2_init_1 : List UInt8 := [188, 10, 181, 0, 18, 177]
abbrev dktX2_init_1 : List UInt8 := dkwX2_init_1 ++ []
def dkwX2_init_0 : List UInt8 := [42, 183, 0, 3, 42, 16, 8, 188, 10, 181, 0, 9, 42, 16, 8, 188, 10, 181, 0, 15, 42, 16, 8]
abbrev dktX2_init_0 : List UInt8 := dkwX2_init_0 ++ dktX2_init_1
theorem dksX2_init_0 : cX2_init.data.toList.drop 0 = dktX2_init_0 := by decide +kernel
theorem dksX2_init_1 : cX2_init.data.toList.drop 23 = dktX2_init_1 := dk_seg dksX2_init_0 23 rfl rfl
theorem dX2_init_0 : decode cX2_init 0 = .ok (.aload_n 0, 1) := dk_42 (dk_at dksX2_init_0 0 rfl rfl)
theorem dX2_init_1 : decode cX2_init 1 = .ok (.invokespecial 3, 3) := dk_183 0 3 (dk_at dksX2_init_0 1 rfl rfl)
theorem dX2_init_4 : decode cX2_init 4 = .ok (.aload_n 0, 1) := dk_42 (dk_at dksX2_init_0 4 rfl rfl)
theorem dX2_init_5 : decode cX2_init 5 = .ok (.bipush 8, 2) := dk_16 8 (dk_at dksX2_init_0 5 rfl rfl)
theorem dX2_init_7 : decode cX2_init 7 = .ok (.newarray .int, 2) := dk_188_10 (dk_at dksX2_init_0 7 rfl rfl)
theorem dX2_init_9 : decode cX2_init 9 = .ok (.putfield 9, 3) := dk_181 0 9 (dk_at dksX2_init_0 9 rfl rfl)
theorem dX2_init_12 : decode cX2_init 12 = .ok (.aload_n 0, 1) := dk_42 (dk_at dksX2_init_0 12 rfl rfl)
theorem dX2_init_13 : decode cX2_init 13 = .ok (.bipush 8, 2) := dk_16 8 (dk_at dksX2_init_0 13 rfl rfl)
theorem dX2_init_15 : decode cX2_init 15 = .ok (.newarray .int, 2) := dk_188_10 (dk_at dksX2_init_0 15 rfl rfl)
theorem dX2_init_17 : decode cX2_init 17 = .ok (.putfield 15, 3) := dk_181 0 15 (dk_at dksX2_init_0 17 rfl rfl)
theorem dX2_init_20 : decode cX2_init 20 = .ok (.aload_n 0, 1) := dk_42 (dk_at dksX2_init_0 20 rfl rfl)
theorem dX2_init_21 : decode cX2_init 21 = .ok (.bipush 8, 2) := dk_16 8 (dk_at dksX2_init_0 21 rfl rfl)
theorem dX2_init_23 : decode cX2_init 23 = .ok (.newarray .int, 2) := dk_188_10 (dk_at dksX2_init_1 0 rfl rfl)
theorem dX2_init_25 : decode cX2_init 25 = .ok (.putfield 18, 3) := dk_181 0 18 (dk_at dksX2_init_1 2 rfl rfl)
theorem dX2_init_28 : decode cX2_init 28 = .ok (.return_, 1) := dk_177 (dk_at dksX2_init_1 5 rfl rfl)
abbrev cX2_place : ByteArray := prog_6_method_2_code
def yX2_place : MethodName := ⟨RX2, "place", "(II)I"⟩
def dkwX2_place_1 : List UInt8 := [29, 46, 28, 159, 0, 9, 132, 3, 1, 167, 255, 225, 29, 172]
abbrev dktX2_place_1 : List UInt8 := dkwX2_place_1 ++ []
def dkwX2_place_0 : List UInt8 := [3, 62, 29, 42, 180, 0, 21, 162, 0, 29, 42, 180, 0, 9, 29, 46, 27, 160, 0, 13, 42, 180, 0, 15]
abbrev dktX2_place_0 : List UInt8 := dkwX2_place_0 ++ dktX2_place_1
theorem dksX2_place_0 : cX2_place.data.toList.drop 0 = dktX2_place_0 := by decide +kernel
theorem dksX2_place_1 : cX2_place.data.toList.drop 24 = dktX2_place_1 := dk_seg dksX2_place_0 24 rfl rfl
theorem dX2_place_0 : decode cX2_place 0 = .ok (.iconst 0, 1) := dk_3 (dk_at dksX2_place_0 0 rfl rfl)
theorem dX2_place_1 : decode cX2_place 1 = .ok (.istore_n 3, 1) := dk_62 (dk_at dksX2_place_0 1 rfl rfl)
theorem dX2_place_2 : decode cX2_place 2 = .ok (.iload_n 3, 1) := dk_29 (dk_at dksX2_place_0 2 rfl rfl)
theorem dX2_place_3 : decode cX2_place 3 = .ok (.aload_n 0, 1) := dk_42 (dk_at dksX2_place_0 3 rfl rfl)
theorem dX2_place_4 : decode cX2_place 4 = .ok (.getfield 21, 3) := dk_180 0 21 (dk_at dksX2_place_0 4 rfl rfl)
theorem dX2_place_7 : decode cX2_place 7 = .ok (.if_icmp .ge 29, 3) := dk_162 0 29 (dk_at dksX2_place_0 7 rfl rfl)
theorem dX2_place_10 : decode cX2_place 10 = .ok (.aload_n 0, 1) := dk_42 (dk_at dksX2_place_0 10 rfl rfl)
theorem dX2_place_11 : decode cX2_place 11 = .ok (.getfield 9, 3) := dk_180 0 9 (dk_at dksX2_place_0 11 rfl rfl)
theorem dX2_place_14 : decode cX2_place 14 = .ok (.iload_n 3, 1) := dk_29 (dk_at dksX2_place_0 14 rfl rfl)
theorem dX2_place_15 : decode cX2_place 15 = .ok (.iaload, 1) := dk_46 (dk_at dksX2_place_0 15 rfl rfl)
theorem dX2_place_16 : decode cX2_place 16 = .ok (.iload_n 1, 1) := dk_27 (dk_at dksX2_place_0 16 rfl rfl)
theorem dX2_place_17 : decode cX2_place 17 = .ok (.if_icmp .ne 13, 3) := dk_160 0 13 (dk_at dksX2_place_0 17 rfl rfl)
theorem dX2_place_20 : decode cX2_place 20 = .ok (.aload_n 0, 1) := dk_42 (dk_at dksX2_place_0 20 rfl rfl)
theorem dX2_place_21 : decode cX2_place 21 = .ok (.getfield 15, 3) := dk_180 0 15 (dk_at dksX2_place_0 21 rfl rfl)
theorem dX2_place_24 : decode cX2_place 24 = .ok (.iload_n 3, 1) := dk_29 (dk_at dksX2_place_1 0 rfl rfl)
theorem dX2_place_25 : decode cX2_place 25 = .ok (.iaload, 1) := dk_46 (dk_at dksX2_place_1 1 rfl rfl)
theorem dX2_place_26 : decode cX2_place 26 = .ok (.iload_n 2, 1) := dk_28 (dk_at dksX2_place_1 2 rfl rfl)
theorem dX2_place_27 : decode cX2_place 27 = .ok (.if_icmp .eq 9, 3) := dk_159 0 9 (dk_at dksX2_place_1 3 rfl rfl)
theorem dX2_place_30 : decode cX2_place 30 = .ok (.iinc 3 1, 3) := dk_132 3 1 (dk_at dksX2_place_1 6 rfl rfl)
theorem dX2_place_33 : decode cX2_place 33 = .ok (.goto (-31), 3) := dk_167 255 225 (dk_at dksX2_place_1 9 rfl rfl)
theorem dX2_place_36 : decode cX2_place 36 = .ok (.iload_n 3, 1) := dk_29 (dk_at dksX2_place_1 12 rfl rfl)
theorem dX2_place_37 : decode cX2_place 37 = .ok (.ireturn, 1) := dk_172 (dk_at dksX2_place_1 13 rfl rfl)
abbrev cX2_route : ByteArray := prog_6_method_3_code
def yX2_route : MethodName := ⟨RX2, "route", "(I)I"⟩
def dkwX2_route_3 : List UInt8 := [180, 0, 18, 28, 46, 172]
abbrev dktX2_route_3 : List UInt8 := dkwX2_route_3 ++ []
def dkwX2_route_2 : List UInt8 := [46, 164, 0, 5, 29, 61, 132, 3, 1, 167, 255, 204, 28, 2, 160, 0, 7, 2, 167, 0, 9, 42]
abbrev dktX2_route_2 : List UInt8 := dkwX2_route_2 ++ dktX2_route_3
def dkwX2_route_1 : List UInt8 := [180, 0, 9, 29, 46, 160, 0, 25, 28, 2, 159, 0, 18, 42, 180, 0, 15, 29, 46, 42, 180, 0, 15, 28]
abbrev dktX2_route_1 : List UInt8 := dkwX2_route_1 ++ dktX2_route_2
def dkwX2_route_0 : List UInt8 := [2, 61, 3, 62, 29, 42, 180, 0, 21, 162, 0, 50, 27, 42, 180, 0, 15, 29, 46, 184, 0, 25, 42]
abbrev dktX2_route_0 : List UInt8 := dkwX2_route_0 ++ dktX2_route_1
theorem dksX2_route_0 : cX2_route.data.toList.drop 0 = dktX2_route_0 := by decide +kernel
theorem dksX2_route_1 : cX2_route.data.toList.drop 23 = dktX2_route_1 := dk_seg dksX2_route_0 23 rfl rfl
theorem dksX2_route_2 : cX2_route.data.toList.drop 47 = dktX2_route_2 := dk_seg dksX2_route_1 24 rfl rfl
theorem dksX2_route_3 : cX2_route.data.toList.drop 69 = dktX2_route_3 := dk_seg dksX2_route_2 22 rfl rfl
theorem dX2_route_0 : decode cX2_route 0 = .ok (.iconst (-1), 1) := dk_2 (dk_at dksX2_route_0 0 rfl rfl)
theorem dX2_route_1 : decode cX2_route 1 = .ok (.istore_n 2, 1) := dk_61 (dk_at dksX2_route_0 1 rfl rfl)
theorem dX2_route_2 : decode cX2_route 2 = .ok (.iconst 0, 1) := dk_3 (dk_at dksX2_route_0 2 rfl rfl)
theorem dX2_route_3 : decode cX2_route 3 = .ok (.istore_n 3, 1) := dk_62 (dk_at dksX2_route_0 3 rfl rfl)
theorem dX2_route_4 : decode cX2_route 4 = .ok (.iload_n 3, 1) := dk_29 (dk_at dksX2_route_0 4 rfl rfl)
theorem dX2_route_5 : decode cX2_route 5 = .ok (.aload_n 0, 1) := dk_42 (dk_at dksX2_route_0 5 rfl rfl)
theorem dX2_route_6 : decode cX2_route 6 = .ok (.getfield 21, 3) := dk_180 0 21 (dk_at dksX2_route_0 6 rfl rfl)
theorem dX2_route_9 : decode cX2_route 9 = .ok (.if_icmp .ge 50, 3) := dk_162 0 50 (dk_at dksX2_route_0 9 rfl rfl)
theorem dX2_route_12 : decode cX2_route 12 = .ok (.iload_n 1, 1) := dk_27 (dk_at dksX2_route_0 12 rfl rfl)
theorem dX2_route_13 : decode cX2_route 13 = .ok (.aload_n 0, 1) := dk_42 (dk_at dksX2_route_0 13 rfl rfl)
theorem dX2_route_14 : decode cX2_route 14 = .ok (.getfield 15, 3) := dk_180 0 15 (dk_at dksX2_route_0 14 rfl rfl)
theorem dX2_route_17 : decode cX2_route 17 = .ok (.iload_n 3, 1) := dk_29 (dk_at dksX2_route_0 17 rfl rfl)
theorem dX2_route_18 : decode cX2_route 18 = .ok (.iaload, 1) := dk_46 (dk_at dksX2_route_0 18 rfl rfl)
theorem dX2_route_19 : decode cX2_route 19 = .ok (.invokestatic 25, 3) := dk_184 0 25 (dk_at dksX2_route_0 19 rfl rfl)
theorem dX2_route_22 : decode cX2_route 22 = .ok (.aload_n 0, 1) := dk_42 (dk_at dksX2_route_0 22 rfl rfl)
theorem dX2_route_23 : decode cX2_route 23 = .ok (.getfield 9, 3) := dk_180 0 9 (dk_at dksX2_route_1 0 rfl rfl)
theorem dX2_route_26 : decode cX2_route 26 = .ok (.iload_n 3, 1) := dk_29 (dk_at dksX2_route_1 3 rfl rfl)
theorem dX2_route_27 : decode cX2_route 27 = .ok (.iaload, 1) := dk_46 (dk_at dksX2_route_1 4 rfl rfl)
theorem dX2_route_28 : decode cX2_route 28 = .ok (.if_icmp .ne 25, 3) := dk_160 0 25 (dk_at dksX2_route_1 5 rfl rfl)
theorem dX2_route_31 : decode cX2_route 31 = .ok (.iload_n 2, 1) := dk_28 (dk_at dksX2_route_1 8 rfl rfl)
theorem dX2_route_32 : decode cX2_route 32 = .ok (.iconst (-1), 1) := dk_2 (dk_at dksX2_route_1 9 rfl rfl)
theorem dX2_route_33 : decode cX2_route 33 = .ok (.if_icmp .eq 18, 3) := dk_159 0 18 (dk_at dksX2_route_1 10 rfl rfl)
theorem dX2_route_36 : decode cX2_route 36 = .ok (.aload_n 0, 1) := dk_42 (dk_at dksX2_route_1 13 rfl rfl)
theorem dX2_route_37 : decode cX2_route 37 = .ok (.getfield 15, 3) := dk_180 0 15 (dk_at dksX2_route_1 14 rfl rfl)
theorem dX2_route_40 : decode cX2_route 40 = .ok (.iload_n 3, 1) := dk_29 (dk_at dksX2_route_1 17 rfl rfl)
theorem dX2_route_41 : decode cX2_route 41 = .ok (.iaload, 1) := dk_46 (dk_at dksX2_route_1 18 rfl rfl)
theorem dX2_route_42 : decode cX2_route 42 = .ok (.aload_n 0, 1) := dk_42 (dk_at dksX2_route_1 19 rfl rfl)
theorem dX2_route_43 : decode cX2_route 43 = .ok (.getfield 15, 3) := dk_180 0 15 (dk_at dksX2_route_1 20 rfl rfl)
theorem dX2_route_46 : decode cX2_route 46 = .ok (.iload_n 2, 1) := dk_28 (dk_at dksX2_route_1 23 rfl rfl)
theorem dX2_route_47 : decode cX2_route 47 = .ok (.iaload, 1) := dk_46 (dk_at dksX2_route_2 0 rfl rfl)
theorem dX2_route_48 : decode cX2_route 48 = .ok (.if_icmp .le 5, 3) := dk_164 0 5 (dk_at dksX2_route_2 1 rfl rfl)
theorem dX2_route_51 : decode cX2_route 51 = .ok (.iload_n 3, 1) := dk_29 (dk_at dksX2_route_2 4 rfl rfl)
theorem dX2_route_52 : decode cX2_route 52 = .ok (.istore_n 2, 1) := dk_61 (dk_at dksX2_route_2 5 rfl rfl)
theorem dX2_route_53 : decode cX2_route 53 = .ok (.iinc 3 1, 3) := dk_132 3 1 (dk_at dksX2_route_2 6 rfl rfl)
theorem dX2_route_56 : decode cX2_route 56 = .ok (.goto (-52), 3) := dk_167 255 204 (dk_at dksX2_route_2 9 rfl rfl)
theorem dX2_route_59 : decode cX2_route 59 = .ok (.iload_n 2, 1) := dk_28 (dk_at dksX2_route_2 12 rfl rfl)
theorem dX2_route_60 : decode cX2_route 60 = .ok (.iconst (-1), 1) := dk_2 (dk_at dksX2_route_2 13 rfl rfl)
theorem dX2_route_61 : decode cX2_route 61 = .ok (.if_icmp .ne 7, 3) := dk_160 0 7 (dk_at dksX2_route_2 14 rfl rfl)
theorem dX2_route_64 : decode cX2_route 64 = .ok (.iconst (-1), 1) := dk_2 (dk_at dksX2_route_2 17 rfl rfl)
theorem dX2_route_65 : decode cX2_route 65 = .ok (.goto 9, 3) := dk_167 0 9 (dk_at dksX2_route_2 18 rfl rfl)
theorem dX2_route_68 : decode cX2_route 68 = .ok (.aload_n 0, 1) := dk_42 (dk_at dksX2_route_2 21 rfl rfl)
theorem dX2_route_69 : decode cX2_route 69 = .ok (.getfield 18, 3) := dk_180 0 18 (dk_at dksX2_route_3 0 rfl rfl)
theorem dX2_route_72 : decode cX2_route 72 = .ok (.iload_n 2, 1) := dk_28 (dk_at dksX2_route_3 3 rfl rfl)
theorem dX2_route_73 : decode cX2_route 73 = .ok (.iaload, 1) := dk_46 (dk_at dksX2_route_3 4 rfl rfl)
theorem dX2_route_74 : decode cX2_route 74 = .ok (.ireturn, 1) := dk_172 (dk_at dksX2_route_3 5 rfl rfl)
theorem q64 : (Jvm.Cond.initialized "Burrowline$Table") ∈ lw_all := lw_g (lw_at lw_m1 5 rfl) rfl
theorem q132 : (Jvm.Cond.instantiable "Burrowline$Table" (4 : Nat)) ∈ lw_all := lw_g (lw_at lw_m1 73 rfl) rfl
theorem q134 : (Jvm.Cond.instanceMethod ({ cls := "Burrowline$Table", name := "<init>", desc := "()V" } : Jvm.MethodName)) ∈ lw_all := lw_g (lw_at lw_m1 75 rfl) rfl
theorem q135 : (Jvm.Cond.code ({ cls := "Burrowline$Table", name := "<init>", desc := "()V" } : Jvm.MethodName) prog_6_method_1_code (1 : Nat) (Option.none : Option Jvm.ClassFile.FieldType)) ∈ lw_all := lw_g (lw_at lw_m1 76 rfl) rfl
theorem q136 : (Jvm.Cond.methodLink "Burrowline$Table" (3 : Nat) ({ cls := "java/lang/Object", name := "<init>", desc := "()V" } : Jvm.MethodName)) ∈ lw_all := lw_g (lw_at lw_m1 77 rfl) rfl
theorem q137 : (Jvm.Cond.fieldLink "Burrowline$Table" (9 : Nat) "Burrowline$Table" "prefix" "[I") ∈ lw_all := lw_g (lw_at lw_m1 78 rfl) rfl
theorem q139 : (Jvm.Cond.fieldLink "Burrowline$Table" (15 : Nat) "Burrowline$Table" "bits" "[I") ∈ lw_all := lw_g (lw_at lw_m1 80 rfl) rfl
theorem q141 : (Jvm.Cond.fieldLink "Burrowline$Table" (18 : Nat) "Burrowline$Table" "peer" "[I") ∈ lw_all := lw_g (lw_at lw_m1 82 rfl) rfl
theorem q143 : (Jvm.Cond.fieldLink "Burrowline$Table" (21 : Nat) "Burrowline$Table" "many" "I") ∈ lw_all := lw_g (lw_at lw_m1 84 rfl) rfl
theorem q145 : (Jvm.Cond.laysFinal "Burrowline$Table" "Burrowline$Table" "prefix" "[I") ∈ lw_all := lw_g (lw_at lw_m1 86 rfl) rfl
theorem q146 : (Jvm.Cond.soleField "Burrowline$Table" "prefix") ∈ lw_all := lw_g (lw_at lw_m1 87 rfl) rfl
theorem q147 : (Jvm.Cond.laysFinal "Burrowline$Table" "Burrowline$Table" "bits" "[I") ∈ lw_all := lw_g (lw_at lw_m1 88 rfl) rfl
theorem q148 : (Jvm.Cond.soleField "Burrowline$Table" "bits") ∈ lw_all := lw_g (lw_at lw_m1 89 rfl) rfl
theorem q149 : (Jvm.Cond.laysFinal "Burrowline$Table" "Burrowline$Table" "peer" "[I") ∈ lw_all := lw_g (lw_at lw_m1 90 rfl) rfl
theorem q150 : (Jvm.Cond.soleField "Burrowline$Table" "peer") ∈ lw_all := lw_g (lw_at lw_m1 91 rfl) rfl
theorem q151 : (Jvm.Cond.lays "Burrowline$Table" "Burrowline$Table" "many" "I") ∈ lw_all := lw_g (lw_at lw_m1 92 rfl) rfl
theorem q152 : (Jvm.Cond.soleField "Burrowline$Table" "many") ∈ lw_all := lw_g (lw_at lw_m1 93 rfl) rfl
theorem q153 : (Jvm.Cond.superclass "Burrowline$Table" "java/lang/Object") ∈ lw_all := lw_g (lw_at lw_m1 94 rfl) rfl
theorem q191 : (Jvm.Cond.selects "Burrowline$Table" ({ cls := "java/lang/Object", name := "getClass", desc := "()Ljava/lang/Class;" } : Jvm.MethodName) ({ cls := "java/lang/Object", name := "getClass", desc := "()Ljava/lang/Class;" } : Jvm.MethodName)) ∈ lw_all := lw_g (lw_at lw_m1 132 rfl) rfl
theorem q605 : (Jvm.Cond.privateMethod ({ cls := "Burrowline$Table", name := "place", desc := "(II)I" } : Jvm.MethodName)) ∈ lw_tbl := lw_at lw_m3 66 rfl
theorem q606 : (Jvm.Cond.instanceMethod ({ cls := "Burrowline$Table", name := "place", desc := "(II)I" } : Jvm.MethodName)) ∈ lw_all := lw_g (lw_at lw_m3 67 rfl) rfl
theorem q607 : (Jvm.Cond.code ({ cls := "Burrowline$Table", name := "place", desc := "(II)I" } : Jvm.MethodName) prog_6_method_2_code (4 : Nat) (Option.some Jvm.ClassFile.FieldType.int)) ∈ lw_all := lw_g (lw_at lw_m3 68 rfl) rfl
theorem q631 : (Jvm.Cond.privateMethod ({ cls := "Burrowline$Table", name := "route", desc := "(I)I" } : Jvm.MethodName)) ∈ lw_tbl := lw_at lw_m3 92 rfl
theorem q632 : (Jvm.Cond.instanceMethod ({ cls := "Burrowline$Table", name := "route", desc := "(I)I" } : Jvm.MethodName)) ∈ lw_all := lw_g (lw_at lw_m3 93 rfl) rfl
theorem q633 : (Jvm.Cond.code ({ cls := "Burrowline$Table", name := "route", desc := "(I)I" } : Jvm.MethodName) prog_6_method_3_code (4 : Nat) (Option.some Jvm.ClassFile.FieldType.int)) ∈ lw_all := lw_g (lw_at lw_m3 94 rfl) rfl
theorem q634 : (Jvm.Cond.methodLinkNest "Burrowline$Table" (25 : Nat) ({ cls := "Burrowline", name := "cut", desc := "(II)I" } : Jvm.MethodName) "Burrowline") ∈ lw_tbl := lw_at lw_m3 95 rfl
theorem q1484 : (Jvm.Cond.castable "Burrowline$Table" "java/lang/Object") ∈ lw_tbl := lw_at lw_m6 225 rfl
theorem in_X2 : ∀ w ∈ wsX20, w ∈ lw_all := lw_in wsX20 [145, 147, 149, 151] (by decide +kernel) (by decide +kernel)
/-! Burrowline$Side -/
set_option maxRecDepth 100000
def RX3 : String := "Burrowline$Side"
def TX3 : u_T := fun k => match k with
  | 0 => ("Burrowline$Side", "known", "I", false)
  | 1 => ("Burrowline$Side", "previous", "LBurrowline$Session;", false)
  | 2 => ("Burrowline$Side", "current", "LBurrowline$Session;", false)
  | 3 => ("Burrowline$Side", "next", "LBurrowline$Session;", false)
  | 4 => ("Burrowline$Side", "flight", "LBurrowline$Flight;", false)
  | 5 => ("Burrowline$Side", "stampTaken", "I", false)
  | 6 => ("Burrowline$Side", "stampSent", "I", false)
  | 7 => ("Burrowline$Side", "cookie", "I", false)
  | 8 => ("Burrowline$Side", "cookieAt", "I", false)
  | 9 => ("Burrowline$Side", "packets", "[[I", true)
  | _ => ("Burrowline$Side", "waits", "I", false)
def tyX3 : Nat → FieldType := fun k => match k with
  | 0 => .int
  | 1 => .object "Burrowline$Session"
  | 2 => .object "Burrowline$Session"
  | 3 => .object "Burrowline$Session"
  | 4 => .object "Burrowline$Flight"
  | 5 => .int
  | 6 => .int
  | 7 => .int
  | 8 => .int
  | 9 => .array (.array .int)
  | _ => .int
abbrev wsX30 : List Cond := u_ws RX3 TX3 11
theorem nmX3 : ∀ a, a < 11 → ∀ b, b < 11 → a ≠ b → (TX3 a).2.1 ≠ (TX3 b).2.1 := by decide +kernel
theorem tyX3_ok : ∀ k, k < 11 → parseFieldDescriptor (TX3 k).2.2.1 = some (tyX3 k) := by decide +kernel
abbrev cX3_init : ByteArray := prog_5_method_1_code
def yX3_init : MethodName := ⟨RX3, "<init>", "(I)V"⟩
def dkwX3_init_1 : List UInt8 := [177]
abbrev dktX3_init_1 : List UInt8 := dkwX3_init_1 ++ []
def dkwX3_init_0 : List UInt8 := [42, 183, 0, 3, 42, 2, 181, 0, 9, 42, 7, 6, 197, 0, 15, 2, 181, 0, 17, 42, 27, 181, 0, 20]
abbrev dktX3_init_0 : List UInt8 := dkwX3_init_0 ++ dktX3_init_1
theorem dksX3_init_0 : cX3_init.data.toList.drop 0 = dktX3_init_0 := by decide +kernel
theorem dksX3_init_1 : cX3_init.data.toList.drop 24 = dktX3_init_1 := dk_seg dksX3_init_0 24 rfl rfl
theorem dX3_init_0 : decode cX3_init 0 = .ok (.aload_n 0, 1) := dk_42 (dk_at dksX3_init_0 0 rfl rfl)
theorem dX3_init_1 : decode cX3_init 1 = .ok (.invokespecial 3, 3) := dk_183 0 3 (dk_at dksX3_init_0 1 rfl rfl)
theorem dX3_init_4 : decode cX3_init 4 = .ok (.aload_n 0, 1) := dk_42 (dk_at dksX3_init_0 4 rfl rfl)
theorem dX3_init_5 : decode cX3_init 5 = .ok (.iconst (-1), 1) := dk_2 (dk_at dksX3_init_0 5 rfl rfl)
theorem dX3_init_6 : decode cX3_init 6 = .ok (.putfield 9, 3) := dk_181 0 9 (dk_at dksX3_init_0 6 rfl rfl)
theorem dX3_init_9 : decode cX3_init 9 = .ok (.aload_n 0, 1) := dk_42 (dk_at dksX3_init_0 9 rfl rfl)
theorem dX3_init_10 : decode cX3_init 10 = .ok (.iconst 4, 1) := dk_7 (dk_at dksX3_init_0 10 rfl rfl)
theorem dX3_init_11 : decode cX3_init 11 = .ok (.iconst 3, 1) := dk_6 (dk_at dksX3_init_0 11 rfl rfl)
theorem dX3_init_12 : decode cX3_init 12 = .ok (.multianewarray 15 2, 4) := by decide +kernel
theorem dX3_init_16 : decode cX3_init 16 = .ok (.putfield 17, 3) := dk_181 0 17 (dk_at dksX3_init_0 16 rfl rfl)
theorem dX3_init_19 : decode cX3_init 19 = .ok (.aload_n 0, 1) := dk_42 (dk_at dksX3_init_0 19 rfl rfl)
theorem dX3_init_20 : decode cX3_init 20 = .ok (.iload_n 1, 1) := dk_27 (dk_at dksX3_init_0 20 rfl rfl)
theorem dX3_init_21 : decode cX3_init 21 = .ok (.putfield 20, 3) := dk_181 0 20 (dk_at dksX3_init_0 21 rfl rfl)
theorem dX3_init_24 : decode cX3_init 24 = .ok (.return_, 1) := dk_177 (dk_at dksX3_init_1 0 rfl rfl)
abbrev cX3_session : ByteArray := prog_5_method_2_code
def yX3_session : MethodName := ⟨RX3, "session", "(I)LBurrowline$Session;"⟩
def dkwX3_session_1 : List UInt8 := [180, 0, 30, 176]
abbrev dktX3_session_1 : List UInt8 := dkwX3_session_1 ++ []
def dkwX3_session_0 : List UInt8 := [27, 154, 0, 10, 42, 180, 0, 23, 167, 0, 19, 27, 4, 160, 0, 10, 42, 180, 0, 27, 167, 0, 7, 42]
abbrev dktX3_session_0 : List UInt8 := dkwX3_session_0 ++ dktX3_session_1
theorem dksX3_session_0 : cX3_session.data.toList.drop 0 = dktX3_session_0 := by decide +kernel
theorem dksX3_session_1 : cX3_session.data.toList.drop 24 = dktX3_session_1 := dk_seg dksX3_session_0 24 rfl rfl
theorem dX3_session_0 : decode cX3_session 0 = .ok (.iload_n 1, 1) := dk_27 (dk_at dksX3_session_0 0 rfl rfl)
theorem dX3_session_1 : decode cX3_session 1 = .ok (.ifCond .ne 10, 3) := dk_154 0 10 (dk_at dksX3_session_0 1 rfl rfl)
theorem dX3_session_4 : decode cX3_session 4 = .ok (.aload_n 0, 1) := dk_42 (dk_at dksX3_session_0 4 rfl rfl)
theorem dX3_session_5 : decode cX3_session 5 = .ok (.getfield 23, 3) := dk_180 0 23 (dk_at dksX3_session_0 5 rfl rfl)
theorem dX3_session_8 : decode cX3_session 8 = .ok (.goto 19, 3) := dk_167 0 19 (dk_at dksX3_session_0 8 rfl rfl)
theorem dX3_session_11 : decode cX3_session 11 = .ok (.iload_n 1, 1) := dk_27 (dk_at dksX3_session_0 11 rfl rfl)
theorem dX3_session_12 : decode cX3_session 12 = .ok (.iconst 1, 1) := dk_4 (dk_at dksX3_session_0 12 rfl rfl)
theorem dX3_session_13 : decode cX3_session 13 = .ok (.if_icmp .ne 10, 3) := dk_160 0 10 (dk_at dksX3_session_0 13 rfl rfl)
theorem dX3_session_16 : decode cX3_session 16 = .ok (.aload_n 0, 1) := dk_42 (dk_at dksX3_session_0 16 rfl rfl)
theorem dX3_session_17 : decode cX3_session 17 = .ok (.getfield 27, 3) := dk_180 0 27 (dk_at dksX3_session_0 17 rfl rfl)
theorem dX3_session_20 : decode cX3_session 20 = .ok (.goto 7, 3) := dk_167 0 7 (dk_at dksX3_session_0 20 rfl rfl)
theorem dX3_session_23 : decode cX3_session 23 = .ok (.aload_n 0, 1) := dk_42 (dk_at dksX3_session_0 23 rfl rfl)
theorem dX3_session_24 : decode cX3_session 24 = .ok (.getfield 30, 3) := dk_180 0 30 (dk_at dksX3_session_1 0 rfl rfl)
theorem dX3_session_27 : decode cX3_session 27 = .ok (.areturn, 1) := dk_176 (dk_at dksX3_session_1 3 rfl rfl)
abbrev cX3_wait : ByteArray := prog_5_method_3_code
def yX3_wait : MethodName := ⟨RX3, "wait", "(III)V"⟩
def dkwX3_wait_1 : List UInt8 := [89, 3, 27, 79, 89, 4, 28, 79, 89, 5, 29, 79, 83, 42, 89, 180, 0, 33, 4, 96, 181, 0, 33, 177]
abbrev dktX3_wait_1 : List UInt8 := dkwX3_wait_1 ++ []
def dkwX3_wait_0 : List UInt8 := [42, 180, 0, 33, 7, 160, 0, 8, 42, 182, 0, 36, 87, 42, 180, 0, 17, 42, 180, 0, 33, 6, 188, 10]
abbrev dktX3_wait_0 : List UInt8 := dkwX3_wait_0 ++ dktX3_wait_1
theorem dksX3_wait_0 : cX3_wait.data.toList.drop 0 = dktX3_wait_0 := by decide +kernel
theorem dksX3_wait_1 : cX3_wait.data.toList.drop 24 = dktX3_wait_1 := dk_seg dksX3_wait_0 24 rfl rfl
theorem dX3_wait_0 : decode cX3_wait 0 = .ok (.aload_n 0, 1) := dk_42 (dk_at dksX3_wait_0 0 rfl rfl)
theorem dX3_wait_1 : decode cX3_wait 1 = .ok (.getfield 33, 3) := dk_180 0 33 (dk_at dksX3_wait_0 1 rfl rfl)
theorem dX3_wait_4 : decode cX3_wait 4 = .ok (.iconst 4, 1) := dk_7 (dk_at dksX3_wait_0 4 rfl rfl)
theorem dX3_wait_5 : decode cX3_wait 5 = .ok (.if_icmp .ne 8, 3) := dk_160 0 8 (dk_at dksX3_wait_0 5 rfl rfl)
theorem dX3_wait_8 : decode cX3_wait 8 = .ok (.aload_n 0, 1) := dk_42 (dk_at dksX3_wait_0 8 rfl rfl)
theorem dX3_wait_9 : decode cX3_wait 9 = .ok (.invokevirtual 36, 3) := dk_182 0 36 (dk_at dksX3_wait_0 9 rfl rfl)
theorem dX3_wait_12 : decode cX3_wait 12 = .ok (.pop, 1) := dk_87 (dk_at dksX3_wait_0 12 rfl rfl)
theorem dX3_wait_13 : decode cX3_wait 13 = .ok (.aload_n 0, 1) := dk_42 (dk_at dksX3_wait_0 13 rfl rfl)
theorem dX3_wait_14 : decode cX3_wait 14 = .ok (.getfield 17, 3) := dk_180 0 17 (dk_at dksX3_wait_0 14 rfl rfl)
theorem dX3_wait_17 : decode cX3_wait 17 = .ok (.aload_n 0, 1) := dk_42 (dk_at dksX3_wait_0 17 rfl rfl)
theorem dX3_wait_18 : decode cX3_wait 18 = .ok (.getfield 33, 3) := dk_180 0 33 (dk_at dksX3_wait_0 18 rfl rfl)
theorem dX3_wait_21 : decode cX3_wait 21 = .ok (.iconst 3, 1) := dk_6 (dk_at dksX3_wait_0 21 rfl rfl)
theorem dX3_wait_22 : decode cX3_wait 22 = .ok (.newarray .int, 2) := dk_188_10 (dk_at dksX3_wait_0 22 rfl rfl)
theorem dX3_wait_24 : decode cX3_wait 24 = .ok (.dup, 1) := dk_89 (dk_at dksX3_wait_1 0 rfl rfl)
theorem dX3_wait_25 : decode cX3_wait 25 = .ok (.iconst 0, 1) := dk_3 (dk_at dksX3_wait_1 1 rfl rfl)
theorem dX3_wait_26 : decode cX3_wait 26 = .ok (.iload_n 1, 1) := dk_27 (dk_at dksX3_wait_1 2 rfl rfl)
theorem dX3_wait_27 : decode cX3_wait 27 = .ok (.iastore, 1) := dk_79 (dk_at dksX3_wait_1 3 rfl rfl)
theorem dX3_wait_28 : decode cX3_wait 28 = .ok (.dup, 1) := dk_89 (dk_at dksX3_wait_1 4 rfl rfl)
theorem dX3_wait_29 : decode cX3_wait 29 = .ok (.iconst 1, 1) := dk_4 (dk_at dksX3_wait_1 5 rfl rfl)
theorem dX3_wait_30 : decode cX3_wait 30 = .ok (.iload_n 2, 1) := dk_28 (dk_at dksX3_wait_1 6 rfl rfl)
theorem dX3_wait_31 : decode cX3_wait 31 = .ok (.iastore, 1) := dk_79 (dk_at dksX3_wait_1 7 rfl rfl)
theorem dX3_wait_32 : decode cX3_wait 32 = .ok (.dup, 1) := dk_89 (dk_at dksX3_wait_1 8 rfl rfl)
theorem dX3_wait_33 : decode cX3_wait 33 = .ok (.iconst 2, 1) := dk_5 (dk_at dksX3_wait_1 9 rfl rfl)
theorem dX3_wait_34 : decode cX3_wait 34 = .ok (.iload_n 3, 1) := dk_29 (dk_at dksX3_wait_1 10 rfl rfl)
theorem dX3_wait_35 : decode cX3_wait 35 = .ok (.iastore, 1) := dk_79 (dk_at dksX3_wait_1 11 rfl rfl)
theorem dX3_wait_36 : decode cX3_wait 36 = .ok (.aastore, 1) := dk_83 (dk_at dksX3_wait_1 12 rfl rfl)
theorem dX3_wait_37 : decode cX3_wait 37 = .ok (.aload_n 0, 1) := dk_42 (dk_at dksX3_wait_1 13 rfl rfl)
theorem dX3_wait_38 : decode cX3_wait 38 = .ok (.dup, 1) := dk_89 (dk_at dksX3_wait_1 14 rfl rfl)
theorem dX3_wait_39 : decode cX3_wait 39 = .ok (.getfield 33, 3) := dk_180 0 33 (dk_at dksX3_wait_1 15 rfl rfl)
theorem dX3_wait_42 : decode cX3_wait 42 = .ok (.iconst 1, 1) := dk_4 (dk_at dksX3_wait_1 18 rfl rfl)
theorem dX3_wait_43 : decode cX3_wait 43 = .ok (.iadd, 1) := dk_96 (dk_at dksX3_wait_1 19 rfl rfl)
theorem dX3_wait_44 : decode cX3_wait 44 = .ok (.putfield 33, 3) := dk_181 0 33 (dk_at dksX3_wait_1 20 rfl rfl)
theorem dX3_wait_47 : decode cX3_wait 47 = .ok (.return_, 1) := dk_177 (dk_at dksX3_wait_1 23 rfl rfl)
abbrev cX3_first : ByteArray := prog_5_method_4_code
def yX3_first : MethodName := ⟨RX3, "first", "()[I"⟩
def dkwX3_first_2 : List UInt8 := [176]
abbrev dktX3_first_2 : List UInt8 := dkwX3_first_2 ++ []
def dkwX3_first_1 : List UInt8 := [162, 0, 23, 42, 180, 0, 17, 28, 42, 180, 0, 17, 28, 4, 96, 50, 83, 132, 2, 1, 167, 255, 231, 43]
abbrev dktX3_first_1 : List UInt8 := dkwX3_first_1 ++ dktX3_first_2
def dkwX3_first_0 : List UInt8 := [42, 180, 0, 17, 3, 50, 76, 42, 89, 180, 0, 33, 4, 100, 181, 0, 33, 3, 61, 28, 42, 180, 0, 33]
abbrev dktX3_first_0 : List UInt8 := dkwX3_first_0 ++ dktX3_first_1
theorem dksX3_first_0 : cX3_first.data.toList.drop 0 = dktX3_first_0 := by decide +kernel
theorem dksX3_first_1 : cX3_first.data.toList.drop 24 = dktX3_first_1 := dk_seg dksX3_first_0 24 rfl rfl
theorem dksX3_first_2 : cX3_first.data.toList.drop 48 = dktX3_first_2 := dk_seg dksX3_first_1 24 rfl rfl
theorem dX3_first_0 : decode cX3_first 0 = .ok (.aload_n 0, 1) := dk_42 (dk_at dksX3_first_0 0 rfl rfl)
theorem dX3_first_1 : decode cX3_first 1 = .ok (.getfield 17, 3) := dk_180 0 17 (dk_at dksX3_first_0 1 rfl rfl)
theorem dX3_first_4 : decode cX3_first 4 = .ok (.iconst 0, 1) := dk_3 (dk_at dksX3_first_0 4 rfl rfl)
theorem dX3_first_5 : decode cX3_first 5 = .ok (.aaload, 1) := dk_50 (dk_at dksX3_first_0 5 rfl rfl)
theorem dX3_first_6 : decode cX3_first 6 = .ok (.astore_n 1, 1) := dk_76 (dk_at dksX3_first_0 6 rfl rfl)
theorem dX3_first_7 : decode cX3_first 7 = .ok (.aload_n 0, 1) := dk_42 (dk_at dksX3_first_0 7 rfl rfl)
theorem dX3_first_8 : decode cX3_first 8 = .ok (.dup, 1) := dk_89 (dk_at dksX3_first_0 8 rfl rfl)
theorem dX3_first_9 : decode cX3_first 9 = .ok (.getfield 33, 3) := dk_180 0 33 (dk_at dksX3_first_0 9 rfl rfl)
theorem dX3_first_12 : decode cX3_first 12 = .ok (.iconst 1, 1) := dk_4 (dk_at dksX3_first_0 12 rfl rfl)
theorem dX3_first_13 : decode cX3_first 13 = .ok (.isub, 1) := dk_100 (dk_at dksX3_first_0 13 rfl rfl)
theorem dX3_first_14 : decode cX3_first 14 = .ok (.putfield 33, 3) := dk_181 0 33 (dk_at dksX3_first_0 14 rfl rfl)
theorem dX3_first_17 : decode cX3_first 17 = .ok (.iconst 0, 1) := dk_3 (dk_at dksX3_first_0 17 rfl rfl)
theorem dX3_first_18 : decode cX3_first 18 = .ok (.istore_n 2, 1) := dk_61 (dk_at dksX3_first_0 18 rfl rfl)
theorem dX3_first_19 : decode cX3_first 19 = .ok (.iload_n 2, 1) := dk_28 (dk_at dksX3_first_0 19 rfl rfl)
theorem dX3_first_20 : decode cX3_first 20 = .ok (.aload_n 0, 1) := dk_42 (dk_at dksX3_first_0 20 rfl rfl)
theorem dX3_first_21 : decode cX3_first 21 = .ok (.getfield 33, 3) := dk_180 0 33 (dk_at dksX3_first_0 21 rfl rfl)
theorem dX3_first_24 : decode cX3_first 24 = .ok (.if_icmp .ge 23, 3) := dk_162 0 23 (dk_at dksX3_first_1 0 rfl rfl)
theorem dX3_first_27 : decode cX3_first 27 = .ok (.aload_n 0, 1) := dk_42 (dk_at dksX3_first_1 3 rfl rfl)
theorem dX3_first_28 : decode cX3_first 28 = .ok (.getfield 17, 3) := dk_180 0 17 (dk_at dksX3_first_1 4 rfl rfl)
theorem dX3_first_31 : decode cX3_first 31 = .ok (.iload_n 2, 1) := dk_28 (dk_at dksX3_first_1 7 rfl rfl)
theorem dX3_first_32 : decode cX3_first 32 = .ok (.aload_n 0, 1) := dk_42 (dk_at dksX3_first_1 8 rfl rfl)
theorem dX3_first_33 : decode cX3_first 33 = .ok (.getfield 17, 3) := dk_180 0 17 (dk_at dksX3_first_1 9 rfl rfl)
theorem dX3_first_36 : decode cX3_first 36 = .ok (.iload_n 2, 1) := dk_28 (dk_at dksX3_first_1 12 rfl rfl)
theorem dX3_first_37 : decode cX3_first 37 = .ok (.iconst 1, 1) := dk_4 (dk_at dksX3_first_1 13 rfl rfl)
theorem dX3_first_38 : decode cX3_first 38 = .ok (.iadd, 1) := dk_96 (dk_at dksX3_first_1 14 rfl rfl)
theorem dX3_first_39 : decode cX3_first 39 = .ok (.aaload, 1) := dk_50 (dk_at dksX3_first_1 15 rfl rfl)
theorem dX3_first_40 : decode cX3_first 40 = .ok (.aastore, 1) := dk_83 (dk_at dksX3_first_1 16 rfl rfl)
theorem dX3_first_41 : decode cX3_first 41 = .ok (.iinc 2 1, 3) := dk_132 2 1 (dk_at dksX3_first_1 17 rfl rfl)
theorem dX3_first_44 : decode cX3_first 44 = .ok (.goto (-25), 3) := dk_167 255 231 (dk_at dksX3_first_1 20 rfl rfl)
theorem dX3_first_47 : decode cX3_first 47 = .ok (.aload_n 1, 1) := dk_43 (dk_at dksX3_first_1 23 rfl rfl)
theorem dX3_first_48 : decode cX3_first 48 = .ok (.areturn, 1) := dk_176 (dk_at dksX3_first_2 0 rfl rfl)
theorem q70 : (Jvm.Cond.initialized "Burrowline$Side") ∈ lw_all := lw_g (lw_at lw_m1 11 rfl) rfl
theorem q190 : (Jvm.Cond.selects "Burrowline$Side" ({ cls := "java/lang/Object", name := "getClass", desc := "()Ljava/lang/Class;" } : Jvm.MethodName) ({ cls := "java/lang/Object", name := "getClass", desc := "()Ljava/lang/Class;" } : Jvm.MethodName)) ∈ lw_all := lw_g (lw_at lw_m1 131 rfl) rfl
theorem q216 : (Jvm.Cond.instantiable "Burrowline$Side" (11 : Nat)) ∈ lw_all := lw_g (lw_at lw_m1 157 rfl) rfl
theorem q218 : (Jvm.Cond.instanceMethod ({ cls := "Burrowline$Side", name := "<init>", desc := "(I)V" } : Jvm.MethodName)) ∈ lw_all := lw_g (lw_at lw_m1 159 rfl) rfl
theorem q219 : (Jvm.Cond.code ({ cls := "Burrowline$Side", name := "<init>", desc := "(I)V" } : Jvm.MethodName) prog_5_method_1_code (2 : Nat) (Option.none : Option Jvm.ClassFile.FieldType)) ∈ lw_all := lw_g (lw_at lw_m1 160 rfl) rfl
theorem q220 : (Jvm.Cond.methodLink "Burrowline$Side" (3 : Nat) ({ cls := "java/lang/Object", name := "<init>", desc := "()V" } : Jvm.MethodName)) ∈ lw_all := lw_g (lw_at lw_m1 161 rfl) rfl
theorem q221 : (Jvm.Cond.classLink "Burrowline$Side" (15 : Nat) "[[I") ∈ lw_all := lw_g (lw_at lw_m1 162 rfl) rfl
theorem q223 : (Jvm.Cond.fieldLink "Burrowline$Side" (20 : Nat) "Burrowline$Side" "known" "I") ∈ lw_all := lw_g (lw_at lw_m1 164 rfl) rfl
theorem q225 : (Jvm.Cond.fieldLink "Burrowline$Side" (23 : Nat) "Burrowline$Side" "previous" "LBurrowline$Session;") ∈ lw_all := lw_g (lw_at lw_m1 166 rfl) rfl
theorem q227 : (Jvm.Cond.fieldLink "Burrowline$Side" (27 : Nat) "Burrowline$Side" "current" "LBurrowline$Session;") ∈ lw_all := lw_g (lw_at lw_m1 168 rfl) rfl
theorem q229 : (Jvm.Cond.fieldLink "Burrowline$Side" (30 : Nat) "Burrowline$Side" "next" "LBurrowline$Session;") ∈ lw_all := lw_g (lw_at lw_m1 170 rfl) rfl
theorem q234 : (Jvm.Cond.fieldLink "Burrowline$Side" (9 : Nat) "Burrowline$Side" "cookie" "I") ∈ lw_all := lw_g (lw_at lw_m1 175 rfl) rfl
theorem q237 : (Jvm.Cond.fieldLink "Burrowline$Side" (17 : Nat) "Burrowline$Side" "packets" "[[I") ∈ lw_all := lw_g (lw_at lw_m1 178 rfl) rfl
theorem q238 : (Jvm.Cond.fieldLink "Burrowline$Side" (33 : Nat) "Burrowline$Side" "waits" "I") ∈ lw_all := lw_g (lw_at lw_m1 179 rfl) rfl
theorem q240 : (Jvm.Cond.lays "Burrowline$Side" "Burrowline$Side" "known" "I") ∈ lw_all := lw_g (lw_at lw_m1 181 rfl) rfl
theorem q241 : (Jvm.Cond.soleField "Burrowline$Side" "known") ∈ lw_all := lw_g (lw_at lw_m1 182 rfl) rfl
theorem q242 : (Jvm.Cond.lays "Burrowline$Side" "Burrowline$Side" "previous" "LBurrowline$Session;") ∈ lw_all := lw_g (lw_at lw_m1 183 rfl) rfl
theorem q243 : (Jvm.Cond.soleField "Burrowline$Side" "previous") ∈ lw_all := lw_g (lw_at lw_m1 184 rfl) rfl
theorem q244 : (Jvm.Cond.lays "Burrowline$Side" "Burrowline$Side" "current" "LBurrowline$Session;") ∈ lw_all := lw_g (lw_at lw_m1 185 rfl) rfl
theorem q245 : (Jvm.Cond.soleField "Burrowline$Side" "current") ∈ lw_all := lw_g (lw_at lw_m1 186 rfl) rfl
theorem q246 : (Jvm.Cond.lays "Burrowline$Side" "Burrowline$Side" "next" "LBurrowline$Session;") ∈ lw_all := lw_g (lw_at lw_m1 187 rfl) rfl
theorem q247 : (Jvm.Cond.soleField "Burrowline$Side" "next") ∈ lw_all := lw_g (lw_at lw_m1 188 rfl) rfl
theorem q248 : (Jvm.Cond.lays "Burrowline$Side" "Burrowline$Side" "flight" "LBurrowline$Flight;") ∈ lw_all := lw_g (lw_at lw_m1 189 rfl) rfl
theorem q249 : (Jvm.Cond.soleField "Burrowline$Side" "flight") ∈ lw_all := lw_g (lw_at lw_m1 190 rfl) rfl
theorem q250 : (Jvm.Cond.lays "Burrowline$Side" "Burrowline$Side" "stampTaken" "I") ∈ lw_all := lw_g (lw_at lw_m1 191 rfl) rfl
theorem q251 : (Jvm.Cond.soleField "Burrowline$Side" "stampTaken") ∈ lw_all := lw_g (lw_at lw_m1 192 rfl) rfl
theorem q252 : (Jvm.Cond.lays "Burrowline$Side" "Burrowline$Side" "stampSent" "I") ∈ lw_all := lw_g (lw_at lw_m1 193 rfl) rfl
theorem q253 : (Jvm.Cond.soleField "Burrowline$Side" "stampSent") ∈ lw_all := lw_g (lw_at lw_m1 194 rfl) rfl
theorem q254 : (Jvm.Cond.lays "Burrowline$Side" "Burrowline$Side" "cookie" "I") ∈ lw_all := lw_g (lw_at lw_m1 195 rfl) rfl
theorem q255 : (Jvm.Cond.soleField "Burrowline$Side" "cookie") ∈ lw_all := lw_g (lw_at lw_m1 196 rfl) rfl
theorem q256 : (Jvm.Cond.lays "Burrowline$Side" "Burrowline$Side" "cookieAt" "I") ∈ lw_all := lw_g (lw_at lw_m1 197 rfl) rfl
theorem q257 : (Jvm.Cond.soleField "Burrowline$Side" "cookieAt") ∈ lw_all := lw_g (lw_at lw_m1 198 rfl) rfl
theorem q258 : (Jvm.Cond.laysFinal "Burrowline$Side" "Burrowline$Side" "packets" "[[I") ∈ lw_all := lw_g (lw_at lw_m1 199 rfl) rfl
theorem q259 : (Jvm.Cond.soleField "Burrowline$Side" "packets") ∈ lw_all := lw_g (lw_at lw_m1 200 rfl) rfl
theorem q260 : (Jvm.Cond.lays "Burrowline$Side" "Burrowline$Side" "waits" "I") ∈ lw_all := lw_g (lw_at lw_m1 201 rfl) rfl
theorem q261 : (Jvm.Cond.soleField "Burrowline$Side" "waits") ∈ lw_all := lw_g (lw_at lw_m1 202 rfl) rfl
theorem q262 : (Jvm.Cond.superclass "Burrowline$Side" "java/lang/Object") ∈ lw_all := lw_g (lw_at lw_m1 203 rfl) rfl
theorem q323 : (Jvm.Cond.privateMethod ({ cls := "Burrowline$Side", name := "session", desc := "(I)LBurrowline$Session;" } : Jvm.MethodName)) ∈ lw_tbl := lw_at lw_m2 24 rfl
theorem q324 : (Jvm.Cond.instanceMethod ({ cls := "Burrowline$Side", name := "session", desc := "(I)LBurrowline$Session;" } : Jvm.MethodName)) ∈ lw_all := lw_g (lw_at lw_m2 25 rfl) rfl
theorem q325 : (Jvm.Cond.code ({ cls := "Burrowline$Side", name := "session", desc := "(I)LBurrowline$Session;" } : Jvm.MethodName) prog_5_method_2_code (2 : Nat) (Option.some (Jvm.ClassFile.FieldType.object "Burrowline$Session"))) ∈ lw_all := lw_g (lw_at lw_m2 26 rfl) rfl
theorem q739 : (Jvm.Cond.privateMethod ({ cls := "Burrowline$Side", name := "wait", desc := "(III)V" } : Jvm.MethodName)) ∈ lw_tbl := lw_at lw_m3 200 rfl
theorem q740 : (Jvm.Cond.instanceMethod ({ cls := "Burrowline$Side", name := "wait", desc := "(III)V" } : Jvm.MethodName)) ∈ lw_all := lw_g (lw_at lw_m3 201 rfl) rfl
theorem q741 : (Jvm.Cond.code ({ cls := "Burrowline$Side", name := "wait", desc := "(III)V" } : Jvm.MethodName) prog_5_method_3_code (4 : Nat) (Option.none : Option Jvm.ClassFile.FieldType)) ∈ lw_all := lw_g (lw_at lw_m3 202 rfl) rfl
theorem q742 : (Jvm.Cond.methodLink "Burrowline$Side" (36 : Nat) ({ cls := "Burrowline$Side", name := "first", desc := "()[I" } : Jvm.MethodName)) ∈ lw_all := lw_g (lw_at lw_m3 203 rfl) rfl
theorem q743 : (Jvm.Cond.privateMethod ({ cls := "Burrowline$Side", name := "first", desc := "()[I" } : Jvm.MethodName)) ∈ lw_tbl := lw_at lw_m3 204 rfl
theorem q744 : (Jvm.Cond.instanceMethod ({ cls := "Burrowline$Side", name := "first", desc := "()[I" } : Jvm.MethodName)) ∈ lw_all := lw_g (lw_at lw_m3 205 rfl) rfl
theorem q745 : (Jvm.Cond.code ({ cls := "Burrowline$Side", name := "first", desc := "()[I" } : Jvm.MethodName) prog_5_method_4_code (3 : Nat) (Option.some (Jvm.ClassFile.FieldType.array Jvm.ClassFile.FieldType.int))) ∈ lw_all := lw_g (lw_at lw_m3 206 rfl) rfl
theorem q1485 : (Jvm.Cond.castable "Burrowline$Side" "java/lang/Object") ∈ lw_tbl := lw_at lw_m6 226 rfl
theorem in_X3 : ∀ w ∈ wsX30, w ∈ lw_all := lw_in wsX30 [240, 242, 244, 246, 248, 250, 252, 254, 256, 258, 260] (by decide +kernel) (by decide +kernel)
/-! Burrowline$Letter -/
set_option maxRecDepth 100000
def RX5 : String := "Burrowline$Letter"
def TX5 : u_T := fun k => match k with
  | 0 => ("Burrowline$Letter", "from", "I", false)
  | 1 => ("Burrowline$Letter", "to", "I", true)
  | 2 => ("Burrowline$Letter", "kind", "I", true)
  | 3 => ("Burrowline$Letter", "key", "I", true)
  | 4 => ("Burrowline$Letter", "fields", "[I", true)
  | 5 => ("Burrowline$Letter", "turned", "I", false)
  | _ => ("Burrowline$Letter", "sent", "I", false)
def tyX5 : Nat → FieldType := fun k => match k with
  | 0 => .int
  | 1 => .int
  | 2 => .int
  | 3 => .int
  | 4 => .array .int
  | 5 => .int
  | _ => .int
abbrev wsX50 : List Cond := u_ws RX5 TX5 7
theorem nmX5 : ∀ a, a < 7 → ∀ b, b < 7 → a ≠ b → (TX5 a).2.1 ≠ (TX5 b).2.1 := by decide +kernel
theorem tyX5_ok : ∀ k, k < 7 → parseFieldDescriptor (TX5 k).2.2.1 = some (tyX5 k) := by decide +kernel
abbrev cX5_isTurned : ByteArray := prog_3_method_4_code
def yX5_isTurned : MethodName := ⟨RX5, "isTurned", "()Z"⟩
def dkwX5_isTurned_1 : List UInt8 := [4, 167, 0, 4, 3, 172]
abbrev dktX5_isTurned_1 : List UInt8 := dkwX5_isTurned_1 ++ []
def dkwX5_isTurned_0 : List UInt8 := [42, 180, 0, 15, 2, 159, 0, 23, 42, 180, 0, 9, 42, 180, 0, 15, 46, 42, 180, 0, 40, 159, 0, 7]
abbrev dktX5_isTurned_0 : List UInt8 := dkwX5_isTurned_0 ++ dktX5_isTurned_1
theorem dksX5_isTurned_0 : cX5_isTurned.data.toList.drop 0 = dktX5_isTurned_0 := by decide +kernel
theorem dksX5_isTurned_1 : cX5_isTurned.data.toList.drop 24 = dktX5_isTurned_1 := dk_seg dksX5_isTurned_0 24 rfl rfl
theorem dX5_isTurned_0 : decode cX5_isTurned 0 = .ok (.aload_n 0, 1) := dk_42 (dk_at dksX5_isTurned_0 0 rfl rfl)
theorem dX5_isTurned_1 : decode cX5_isTurned 1 = .ok (.getfield 15, 3) := dk_180 0 15 (dk_at dksX5_isTurned_0 1 rfl rfl)
theorem dX5_isTurned_4 : decode cX5_isTurned 4 = .ok (.iconst (-1), 1) := dk_2 (dk_at dksX5_isTurned_0 4 rfl rfl)
theorem dX5_isTurned_5 : decode cX5_isTurned 5 = .ok (.if_icmp .eq 23, 3) := dk_159 0 23 (dk_at dksX5_isTurned_0 5 rfl rfl)
theorem dX5_isTurned_8 : decode cX5_isTurned 8 = .ok (.aload_n 0, 1) := dk_42 (dk_at dksX5_isTurned_0 8 rfl rfl)
theorem dX5_isTurned_9 : decode cX5_isTurned 9 = .ok (.getfield 9, 3) := dk_180 0 9 (dk_at dksX5_isTurned_0 9 rfl rfl)
theorem dX5_isTurned_12 : decode cX5_isTurned 12 = .ok (.aload_n 0, 1) := dk_42 (dk_at dksX5_isTurned_0 12 rfl rfl)
theorem dX5_isTurned_13 : decode cX5_isTurned 13 = .ok (.getfield 15, 3) := dk_180 0 15 (dk_at dksX5_isTurned_0 13 rfl rfl)
theorem dX5_isTurned_16 : decode cX5_isTurned 16 = .ok (.iaload, 1) := dk_46 (dk_at dksX5_isTurned_0 16 rfl rfl)
theorem dX5_isTurned_17 : decode cX5_isTurned 17 = .ok (.aload_n 0, 1) := dk_42 (dk_at dksX5_isTurned_0 17 rfl rfl)
theorem dX5_isTurned_18 : decode cX5_isTurned 18 = .ok (.getfield 40, 3) := dk_180 0 40 (dk_at dksX5_isTurned_0 18 rfl rfl)
theorem dX5_isTurned_21 : decode cX5_isTurned 21 = .ok (.if_icmp .eq 7, 3) := dk_159 0 7 (dk_at dksX5_isTurned_0 21 rfl rfl)
theorem dX5_isTurned_24 : decode cX5_isTurned 24 = .ok (.iconst 1, 1) := dk_4 (dk_at dksX5_isTurned_1 0 rfl rfl)
theorem dX5_isTurned_25 : decode cX5_isTurned 25 = .ok (.goto 4, 3) := dk_167 0 4 (dk_at dksX5_isTurned_1 1 rfl rfl)
theorem dX5_isTurned_28 : decode cX5_isTurned 28 = .ok (.iconst 0, 1) := dk_3 (dk_at dksX5_isTurned_1 4 rfl rfl)
theorem dX5_isTurned_29 : decode cX5_isTurned 29 = .ok (.ireturn, 1) := dk_172 (dk_at dksX5_isTurned_1 5 rfl rfl)
abbrev cX5_isRight : ByteArray := prog_3_method_5_code
def yX5_isRight : MethodName := ⟨RX5, "isRight", "()Z"⟩
def dkwX5_isRight_9 : List UInt8 := [6, 46, 79, 89, 8, 43, 7, 46, 79, 184, 0, 43, 160, 0, 7, 4, 167, 0, 4, 3, 172]
abbrev dktX5_isRight_9 : List UInt8 := dkwX5_isRight_9 ++ []
def dkwX5_isRight_8 : List UInt8 := [3, 7, 79, 89, 4, 43, 3, 46, 79, 89, 5, 43, 4, 46, 79, 89, 6, 43, 5, 46, 79, 89, 7, 43]
abbrev dktX5_isRight_8 : List UInt8 := dkwX5_isRight_8 ++ dktX5_isRight_9
def dkwX5_isRight_7 : List UInt8 := [184, 0, 43, 160, 0, 7, 4, 167, 0, 4, 3, 172, 43, 8, 46, 42, 180, 0, 28, 16, 6, 188, 10, 89]
abbrev dktX5_isRight_7 : List UInt8 := dkwX5_isRight_7 ++ dktX5_isRight_8
def dkwX5_isRight_6 : List UInt8 := [46, 42, 180, 0, 28, 6, 188, 10, 89, 3, 6, 79, 89, 4, 43, 3, 46, 79, 89, 5, 43, 4, 46, 79]
abbrev dktX5_isRight_6 : List UInt8 := dkwX5_isRight_6 ++ dktX5_isRight_7
def dkwX5_isRight_5 : List UInt8 := [43, 4, 46, 79, 89, 6, 43, 5, 46, 79, 184, 0, 43, 160, 0, 7, 4, 167, 0, 4, 3, 172, 43, 5]
abbrev dktX5_isRight_5 : List UInt8 := dkwX5_isRight_5 ++ dktX5_isRight_6
def dkwX5_isRight_4 : List UInt8 := [3, 172, 43, 6, 46, 42, 180, 0, 28, 7, 188, 10, 89, 3, 5, 79, 89, 4, 43, 3, 46, 79, 89, 5]
abbrev dktX5_isRight_4 : List UInt8 := dkwX5_isRight_4 ++ dktX5_isRight_5
def dkwX5_isRight_3 : List UInt8 := [46, 79, 89, 6, 43, 5, 46, 79, 89, 7, 43, 6, 46, 79, 184, 0, 43, 160, 0, 7, 4, 167, 0, 4]
abbrev dktX5_isRight_3 : List UInt8 := dkwX5_isRight_3 ++ dktX5_isRight_4
def dkwX5_isRight_2 : List UInt8 := [43, 7, 46, 42, 180, 0, 28, 8, 188, 10, 89, 3, 4, 79, 89, 4, 43, 3, 46, 79, 89, 5, 43, 4]
abbrev dktX5_isRight_2 : List UInt8 := dkwX5_isRight_2 ++ dktX5_isRight_3
def dkwX5_isRight_1 : List UInt8 := [170, 0, 0, 0, 0, 0, 159, 0, 0, 0, 1, 0, 0, 0, 3, 0, 0, 0, 27, 0, 0, 0, 77, 0, 0, 0, 121]
abbrev dktX5_isRight_1 : List UInt8 := dkwX5_isRight_1 ++ dktX5_isRight_2
def dkwX5_isRight_0 : List UInt8 := [42, 180, 0, 9, 76, 42, 180, 0, 25]
abbrev dktX5_isRight_0 : List UInt8 := dkwX5_isRight_0 ++ dktX5_isRight_1
theorem dksX5_isRight_0 : cX5_isRight.data.toList.drop 0 = dktX5_isRight_0 := by decide +kernel
theorem dksX5_isRight_1 : cX5_isRight.data.toList.drop 9 = dktX5_isRight_1 := dk_seg dksX5_isRight_0 9 rfl rfl
theorem dksX5_isRight_2 : cX5_isRight.data.toList.drop 36 = dktX5_isRight_2 := dk_seg dksX5_isRight_1 27 rfl rfl
theorem dksX5_isRight_3 : cX5_isRight.data.toList.drop 60 = dktX5_isRight_3 := dk_seg dksX5_isRight_2 24 rfl rfl
theorem dksX5_isRight_4 : cX5_isRight.data.toList.drop 84 = dktX5_isRight_4 := dk_seg dksX5_isRight_3 24 rfl rfl
theorem dksX5_isRight_5 : cX5_isRight.data.toList.drop 108 = dktX5_isRight_5 := dk_seg dksX5_isRight_4 24 rfl rfl
theorem dksX5_isRight_6 : cX5_isRight.data.toList.drop 132 = dktX5_isRight_6 := dk_seg dksX5_isRight_5 24 rfl rfl
theorem dksX5_isRight_7 : cX5_isRight.data.toList.drop 156 = dktX5_isRight_7 := dk_seg dksX5_isRight_6 24 rfl rfl
theorem dksX5_isRight_8 : cX5_isRight.data.toList.drop 180 = dktX5_isRight_8 := dk_seg dksX5_isRight_7 24 rfl rfl
theorem dksX5_isRight_9 : cX5_isRight.data.toList.drop 204 = dktX5_isRight_9 := dk_seg dksX5_isRight_8 24 rfl rfl
theorem dX5_isRight_0 : decode cX5_isRight 0 = .ok (.aload_n 0, 1) := dk_42 (dk_at dksX5_isRight_0 0 rfl rfl)
theorem dX5_isRight_1 : decode cX5_isRight 1 = .ok (.getfield 9, 3) := dk_180 0 9 (dk_at dksX5_isRight_0 1 rfl rfl)
theorem dX5_isRight_4 : decode cX5_isRight 4 = .ok (.astore_n 1, 1) := dk_76 (dk_at dksX5_isRight_0 4 rfl rfl)
theorem dX5_isRight_5 : decode cX5_isRight 5 = .ok (.aload_n 0, 1) := dk_42 (dk_at dksX5_isRight_0 5 rfl rfl)
theorem dX5_isRight_6 : decode cX5_isRight 6 = .ok (.getfield 25, 3) := dk_180 0 25 (dk_at dksX5_isRight_0 6 rfl rfl)
theorem dX5_isRight_9 : decode cX5_isRight 9 = .ok (.tableswitch 159 1 3 #[27, 77, 121], 27) := by decide +kernel
theorem dX5_isRight_36 : decode cX5_isRight 36 = .ok (.aload_n 1, 1) := dk_43 (dk_at dksX5_isRight_2 0 rfl rfl)
theorem dX5_isRight_37 : decode cX5_isRight 37 = .ok (.iconst 4, 1) := dk_7 (dk_at dksX5_isRight_2 1 rfl rfl)
theorem dX5_isRight_38 : decode cX5_isRight 38 = .ok (.iaload, 1) := dk_46 (dk_at dksX5_isRight_2 2 rfl rfl)
theorem dX5_isRight_39 : decode cX5_isRight 39 = .ok (.aload_n 0, 1) := dk_42 (dk_at dksX5_isRight_2 3 rfl rfl)
theorem dX5_isRight_40 : decode cX5_isRight 40 = .ok (.getfield 28, 3) := dk_180 0 28 (dk_at dksX5_isRight_2 4 rfl rfl)
theorem dX5_isRight_43 : decode cX5_isRight 43 = .ok (.iconst 5, 1) := dk_8 (dk_at dksX5_isRight_2 7 rfl rfl)
theorem dX5_isRight_44 : decode cX5_isRight 44 = .ok (.newarray .int, 2) := dk_188_10 (dk_at dksX5_isRight_2 8 rfl rfl)
theorem dX5_isRight_46 : decode cX5_isRight 46 = .ok (.dup, 1) := dk_89 (dk_at dksX5_isRight_2 10 rfl rfl)
theorem dX5_isRight_47 : decode cX5_isRight 47 = .ok (.iconst 0, 1) := dk_3 (dk_at dksX5_isRight_2 11 rfl rfl)
theorem dX5_isRight_48 : decode cX5_isRight 48 = .ok (.iconst 1, 1) := dk_4 (dk_at dksX5_isRight_2 12 rfl rfl)
theorem dX5_isRight_49 : decode cX5_isRight 49 = .ok (.iastore, 1) := dk_79 (dk_at dksX5_isRight_2 13 rfl rfl)
theorem dX5_isRight_50 : decode cX5_isRight 50 = .ok (.dup, 1) := dk_89 (dk_at dksX5_isRight_2 14 rfl rfl)
theorem dX5_isRight_51 : decode cX5_isRight 51 = .ok (.iconst 1, 1) := dk_4 (dk_at dksX5_isRight_2 15 rfl rfl)
theorem dX5_isRight_52 : decode cX5_isRight 52 = .ok (.aload_n 1, 1) := dk_43 (dk_at dksX5_isRight_2 16 rfl rfl)
theorem dX5_isRight_53 : decode cX5_isRight 53 = .ok (.iconst 0, 1) := dk_3 (dk_at dksX5_isRight_2 17 rfl rfl)
theorem dX5_isRight_54 : decode cX5_isRight 54 = .ok (.iaload, 1) := dk_46 (dk_at dksX5_isRight_2 18 rfl rfl)
theorem dX5_isRight_55 : decode cX5_isRight 55 = .ok (.iastore, 1) := dk_79 (dk_at dksX5_isRight_2 19 rfl rfl)
theorem dX5_isRight_56 : decode cX5_isRight 56 = .ok (.dup, 1) := dk_89 (dk_at dksX5_isRight_2 20 rfl rfl)
theorem dX5_isRight_57 : decode cX5_isRight 57 = .ok (.iconst 2, 1) := dk_5 (dk_at dksX5_isRight_2 21 rfl rfl)
theorem dX5_isRight_58 : decode cX5_isRight 58 = .ok (.aload_n 1, 1) := dk_43 (dk_at dksX5_isRight_2 22 rfl rfl)
theorem dX5_isRight_59 : decode cX5_isRight 59 = .ok (.iconst 1, 1) := dk_4 (dk_at dksX5_isRight_2 23 rfl rfl)
theorem dX5_isRight_60 : decode cX5_isRight 60 = .ok (.iaload, 1) := dk_46 (dk_at dksX5_isRight_3 0 rfl rfl)
theorem dX5_isRight_61 : decode cX5_isRight 61 = .ok (.iastore, 1) := dk_79 (dk_at dksX5_isRight_3 1 rfl rfl)
theorem dX5_isRight_62 : decode cX5_isRight 62 = .ok (.dup, 1) := dk_89 (dk_at dksX5_isRight_3 2 rfl rfl)
theorem dX5_isRight_63 : decode cX5_isRight 63 = .ok (.iconst 3, 1) := dk_6 (dk_at dksX5_isRight_3 3 rfl rfl)
theorem dX5_isRight_64 : decode cX5_isRight 64 = .ok (.aload_n 1, 1) := dk_43 (dk_at dksX5_isRight_3 4 rfl rfl)
theorem dX5_isRight_65 : decode cX5_isRight 65 = .ok (.iconst 2, 1) := dk_5 (dk_at dksX5_isRight_3 5 rfl rfl)
theorem dX5_isRight_66 : decode cX5_isRight 66 = .ok (.iaload, 1) := dk_46 (dk_at dksX5_isRight_3 6 rfl rfl)
theorem dX5_isRight_67 : decode cX5_isRight 67 = .ok (.iastore, 1) := dk_79 (dk_at dksX5_isRight_3 7 rfl rfl)
theorem dX5_isRight_68 : decode cX5_isRight 68 = .ok (.dup, 1) := dk_89 (dk_at dksX5_isRight_3 8 rfl rfl)
theorem dX5_isRight_69 : decode cX5_isRight 69 = .ok (.iconst 4, 1) := dk_7 (dk_at dksX5_isRight_3 9 rfl rfl)
theorem dX5_isRight_70 : decode cX5_isRight 70 = .ok (.aload_n 1, 1) := dk_43 (dk_at dksX5_isRight_3 10 rfl rfl)
theorem dX5_isRight_71 : decode cX5_isRight 71 = .ok (.iconst 3, 1) := dk_6 (dk_at dksX5_isRight_3 11 rfl rfl)
theorem dX5_isRight_72 : decode cX5_isRight 72 = .ok (.iaload, 1) := dk_46 (dk_at dksX5_isRight_3 12 rfl rfl)
theorem dX5_isRight_73 : decode cX5_isRight 73 = .ok (.iastore, 1) := dk_79 (dk_at dksX5_isRight_3 13 rfl rfl)
theorem dX5_isRight_74 : decode cX5_isRight 74 = .ok (.invokestatic 43, 3) := dk_184 0 43 (dk_at dksX5_isRight_3 14 rfl rfl)
theorem dX5_isRight_77 : decode cX5_isRight 77 = .ok (.if_icmp .ne 7, 3) := dk_160 0 7 (dk_at dksX5_isRight_3 17 rfl rfl)
theorem dX5_isRight_80 : decode cX5_isRight 80 = .ok (.iconst 1, 1) := dk_4 (dk_at dksX5_isRight_3 20 rfl rfl)
theorem dX5_isRight_81 : decode cX5_isRight 81 = .ok (.goto 4, 3) := dk_167 0 4 (dk_at dksX5_isRight_3 21 rfl rfl)
theorem dX5_isRight_84 : decode cX5_isRight 84 = .ok (.iconst 0, 1) := dk_3 (dk_at dksX5_isRight_4 0 rfl rfl)
theorem dX5_isRight_85 : decode cX5_isRight 85 = .ok (.ireturn, 1) := dk_172 (dk_at dksX5_isRight_4 1 rfl rfl)
theorem dX5_isRight_86 : decode cX5_isRight 86 = .ok (.aload_n 1, 1) := dk_43 (dk_at dksX5_isRight_4 2 rfl rfl)
theorem dX5_isRight_87 : decode cX5_isRight 87 = .ok (.iconst 3, 1) := dk_6 (dk_at dksX5_isRight_4 3 rfl rfl)
theorem dX5_isRight_88 : decode cX5_isRight 88 = .ok (.iaload, 1) := dk_46 (dk_at dksX5_isRight_4 4 rfl rfl)
theorem dX5_isRight_89 : decode cX5_isRight 89 = .ok (.aload_n 0, 1) := dk_42 (dk_at dksX5_isRight_4 5 rfl rfl)
theorem dX5_isRight_90 : decode cX5_isRight 90 = .ok (.getfield 28, 3) := dk_180 0 28 (dk_at dksX5_isRight_4 6 rfl rfl)
theorem dX5_isRight_93 : decode cX5_isRight 93 = .ok (.iconst 4, 1) := dk_7 (dk_at dksX5_isRight_4 9 rfl rfl)
theorem dX5_isRight_94 : decode cX5_isRight 94 = .ok (.newarray .int, 2) := dk_188_10 (dk_at dksX5_isRight_4 10 rfl rfl)
theorem dX5_isRight_96 : decode cX5_isRight 96 = .ok (.dup, 1) := dk_89 (dk_at dksX5_isRight_4 12 rfl rfl)
theorem dX5_isRight_97 : decode cX5_isRight 97 = .ok (.iconst 0, 1) := dk_3 (dk_at dksX5_isRight_4 13 rfl rfl)
theorem dX5_isRight_98 : decode cX5_isRight 98 = .ok (.iconst 2, 1) := dk_5 (dk_at dksX5_isRight_4 14 rfl rfl)
theorem dX5_isRight_99 : decode cX5_isRight 99 = .ok (.iastore, 1) := dk_79 (dk_at dksX5_isRight_4 15 rfl rfl)
theorem dX5_isRight_100 : decode cX5_isRight 100 = .ok (.dup, 1) := dk_89 (dk_at dksX5_isRight_4 16 rfl rfl)
theorem dX5_isRight_101 : decode cX5_isRight 101 = .ok (.iconst 1, 1) := dk_4 (dk_at dksX5_isRight_4 17 rfl rfl)
theorem dX5_isRight_102 : decode cX5_isRight 102 = .ok (.aload_n 1, 1) := dk_43 (dk_at dksX5_isRight_4 18 rfl rfl)
theorem dX5_isRight_103 : decode cX5_isRight 103 = .ok (.iconst 0, 1) := dk_3 (dk_at dksX5_isRight_4 19 rfl rfl)
theorem dX5_isRight_104 : decode cX5_isRight 104 = .ok (.iaload, 1) := dk_46 (dk_at dksX5_isRight_4 20 rfl rfl)
theorem dX5_isRight_105 : decode cX5_isRight 105 = .ok (.iastore, 1) := dk_79 (dk_at dksX5_isRight_4 21 rfl rfl)
theorem dX5_isRight_106 : decode cX5_isRight 106 = .ok (.dup, 1) := dk_89 (dk_at dksX5_isRight_4 22 rfl rfl)
theorem dX5_isRight_107 : decode cX5_isRight 107 = .ok (.iconst 2, 1) := dk_5 (dk_at dksX5_isRight_4 23 rfl rfl)
theorem dX5_isRight_108 : decode cX5_isRight 108 = .ok (.aload_n 1, 1) := dk_43 (dk_at dksX5_isRight_5 0 rfl rfl)
theorem dX5_isRight_109 : decode cX5_isRight 109 = .ok (.iconst 1, 1) := dk_4 (dk_at dksX5_isRight_5 1 rfl rfl)
theorem dX5_isRight_110 : decode cX5_isRight 110 = .ok (.iaload, 1) := dk_46 (dk_at dksX5_isRight_5 2 rfl rfl)
theorem dX5_isRight_111 : decode cX5_isRight 111 = .ok (.iastore, 1) := dk_79 (dk_at dksX5_isRight_5 3 rfl rfl)
theorem dX5_isRight_112 : decode cX5_isRight 112 = .ok (.dup, 1) := dk_89 (dk_at dksX5_isRight_5 4 rfl rfl)
theorem dX5_isRight_113 : decode cX5_isRight 113 = .ok (.iconst 3, 1) := dk_6 (dk_at dksX5_isRight_5 5 rfl rfl)
theorem dX5_isRight_114 : decode cX5_isRight 114 = .ok (.aload_n 1, 1) := dk_43 (dk_at dksX5_isRight_5 6 rfl rfl)
theorem dX5_isRight_115 : decode cX5_isRight 115 = .ok (.iconst 2, 1) := dk_5 (dk_at dksX5_isRight_5 7 rfl rfl)
theorem dX5_isRight_116 : decode cX5_isRight 116 = .ok (.iaload, 1) := dk_46 (dk_at dksX5_isRight_5 8 rfl rfl)
theorem dX5_isRight_117 : decode cX5_isRight 117 = .ok (.iastore, 1) := dk_79 (dk_at dksX5_isRight_5 9 rfl rfl)
theorem dX5_isRight_118 : decode cX5_isRight 118 = .ok (.invokestatic 43, 3) := dk_184 0 43 (dk_at dksX5_isRight_5 10 rfl rfl)
theorem dX5_isRight_121 : decode cX5_isRight 121 = .ok (.if_icmp .ne 7, 3) := dk_160 0 7 (dk_at dksX5_isRight_5 13 rfl rfl)
theorem dX5_isRight_124 : decode cX5_isRight 124 = .ok (.iconst 1, 1) := dk_4 (dk_at dksX5_isRight_5 16 rfl rfl)
theorem dX5_isRight_125 : decode cX5_isRight 125 = .ok (.goto 4, 3) := dk_167 0 4 (dk_at dksX5_isRight_5 17 rfl rfl)
theorem dX5_isRight_128 : decode cX5_isRight 128 = .ok (.iconst 0, 1) := dk_3 (dk_at dksX5_isRight_5 20 rfl rfl)
theorem dX5_isRight_129 : decode cX5_isRight 129 = .ok (.ireturn, 1) := dk_172 (dk_at dksX5_isRight_5 21 rfl rfl)
theorem dX5_isRight_130 : decode cX5_isRight 130 = .ok (.aload_n 1, 1) := dk_43 (dk_at dksX5_isRight_5 22 rfl rfl)
theorem dX5_isRight_131 : decode cX5_isRight 131 = .ok (.iconst 2, 1) := dk_5 (dk_at dksX5_isRight_5 23 rfl rfl)
theorem dX5_isRight_132 : decode cX5_isRight 132 = .ok (.iaload, 1) := dk_46 (dk_at dksX5_isRight_6 0 rfl rfl)
theorem dX5_isRight_133 : decode cX5_isRight 133 = .ok (.aload_n 0, 1) := dk_42 (dk_at dksX5_isRight_6 1 rfl rfl)
theorem dX5_isRight_134 : decode cX5_isRight 134 = .ok (.getfield 28, 3) := dk_180 0 28 (dk_at dksX5_isRight_6 2 rfl rfl)
theorem dX5_isRight_137 : decode cX5_isRight 137 = .ok (.iconst 3, 1) := dk_6 (dk_at dksX5_isRight_6 5 rfl rfl)
theorem dX5_isRight_138 : decode cX5_isRight 138 = .ok (.newarray .int, 2) := dk_188_10 (dk_at dksX5_isRight_6 6 rfl rfl)
theorem dX5_isRight_140 : decode cX5_isRight 140 = .ok (.dup, 1) := dk_89 (dk_at dksX5_isRight_6 8 rfl rfl)
theorem dX5_isRight_141 : decode cX5_isRight 141 = .ok (.iconst 0, 1) := dk_3 (dk_at dksX5_isRight_6 9 rfl rfl)
theorem dX5_isRight_142 : decode cX5_isRight 142 = .ok (.iconst 3, 1) := dk_6 (dk_at dksX5_isRight_6 10 rfl rfl)
theorem dX5_isRight_143 : decode cX5_isRight 143 = .ok (.iastore, 1) := dk_79 (dk_at dksX5_isRight_6 11 rfl rfl)
theorem dX5_isRight_144 : decode cX5_isRight 144 = .ok (.dup, 1) := dk_89 (dk_at dksX5_isRight_6 12 rfl rfl)
theorem dX5_isRight_145 : decode cX5_isRight 145 = .ok (.iconst 1, 1) := dk_4 (dk_at dksX5_isRight_6 13 rfl rfl)
theorem dX5_isRight_146 : decode cX5_isRight 146 = .ok (.aload_n 1, 1) := dk_43 (dk_at dksX5_isRight_6 14 rfl rfl)
theorem dX5_isRight_147 : decode cX5_isRight 147 = .ok (.iconst 0, 1) := dk_3 (dk_at dksX5_isRight_6 15 rfl rfl)
theorem dX5_isRight_148 : decode cX5_isRight 148 = .ok (.iaload, 1) := dk_46 (dk_at dksX5_isRight_6 16 rfl rfl)
theorem dX5_isRight_149 : decode cX5_isRight 149 = .ok (.iastore, 1) := dk_79 (dk_at dksX5_isRight_6 17 rfl rfl)
theorem dX5_isRight_150 : decode cX5_isRight 150 = .ok (.dup, 1) := dk_89 (dk_at dksX5_isRight_6 18 rfl rfl)
theorem dX5_isRight_151 : decode cX5_isRight 151 = .ok (.iconst 2, 1) := dk_5 (dk_at dksX5_isRight_6 19 rfl rfl)
theorem dX5_isRight_152 : decode cX5_isRight 152 = .ok (.aload_n 1, 1) := dk_43 (dk_at dksX5_isRight_6 20 rfl rfl)
theorem dX5_isRight_153 : decode cX5_isRight 153 = .ok (.iconst 1, 1) := dk_4 (dk_at dksX5_isRight_6 21 rfl rfl)
theorem dX5_isRight_154 : decode cX5_isRight 154 = .ok (.iaload, 1) := dk_46 (dk_at dksX5_isRight_6 22 rfl rfl)
theorem dX5_isRight_155 : decode cX5_isRight 155 = .ok (.iastore, 1) := dk_79 (dk_at dksX5_isRight_6 23 rfl rfl)
theorem dX5_isRight_156 : decode cX5_isRight 156 = .ok (.invokestatic 43, 3) := dk_184 0 43 (dk_at dksX5_isRight_7 0 rfl rfl)
theorem dX5_isRight_159 : decode cX5_isRight 159 = .ok (.if_icmp .ne 7, 3) := dk_160 0 7 (dk_at dksX5_isRight_7 3 rfl rfl)
theorem dX5_isRight_162 : decode cX5_isRight 162 = .ok (.iconst 1, 1) := dk_4 (dk_at dksX5_isRight_7 6 rfl rfl)
theorem dX5_isRight_163 : decode cX5_isRight 163 = .ok (.goto 4, 3) := dk_167 0 4 (dk_at dksX5_isRight_7 7 rfl rfl)
theorem dX5_isRight_166 : decode cX5_isRight 166 = .ok (.iconst 0, 1) := dk_3 (dk_at dksX5_isRight_7 10 rfl rfl)
theorem dX5_isRight_167 : decode cX5_isRight 167 = .ok (.ireturn, 1) := dk_172 (dk_at dksX5_isRight_7 11 rfl rfl)
theorem dX5_isRight_168 : decode cX5_isRight 168 = .ok (.aload_n 1, 1) := dk_43 (dk_at dksX5_isRight_7 12 rfl rfl)
theorem dX5_isRight_169 : decode cX5_isRight 169 = .ok (.iconst 5, 1) := dk_8 (dk_at dksX5_isRight_7 13 rfl rfl)
theorem dX5_isRight_170 : decode cX5_isRight 170 = .ok (.iaload, 1) := dk_46 (dk_at dksX5_isRight_7 14 rfl rfl)
theorem dX5_isRight_171 : decode cX5_isRight 171 = .ok (.aload_n 0, 1) := dk_42 (dk_at dksX5_isRight_7 15 rfl rfl)
theorem dX5_isRight_172 : decode cX5_isRight 172 = .ok (.getfield 28, 3) := dk_180 0 28 (dk_at dksX5_isRight_7 16 rfl rfl)
theorem dX5_isRight_175 : decode cX5_isRight 175 = .ok (.bipush 6, 2) := dk_16 6 (dk_at dksX5_isRight_7 19 rfl rfl)
theorem dX5_isRight_177 : decode cX5_isRight 177 = .ok (.newarray .int, 2) := dk_188_10 (dk_at dksX5_isRight_7 21 rfl rfl)
theorem dX5_isRight_179 : decode cX5_isRight 179 = .ok (.dup, 1) := dk_89 (dk_at dksX5_isRight_7 23 rfl rfl)
theorem dX5_isRight_180 : decode cX5_isRight 180 = .ok (.iconst 0, 1) := dk_3 (dk_at dksX5_isRight_8 0 rfl rfl)
theorem dX5_isRight_181 : decode cX5_isRight 181 = .ok (.iconst 4, 1) := dk_7 (dk_at dksX5_isRight_8 1 rfl rfl)
theorem dX5_isRight_182 : decode cX5_isRight 182 = .ok (.iastore, 1) := dk_79 (dk_at dksX5_isRight_8 2 rfl rfl)
theorem dX5_isRight_183 : decode cX5_isRight 183 = .ok (.dup, 1) := dk_89 (dk_at dksX5_isRight_8 3 rfl rfl)
theorem dX5_isRight_184 : decode cX5_isRight 184 = .ok (.iconst 1, 1) := dk_4 (dk_at dksX5_isRight_8 4 rfl rfl)
theorem dX5_isRight_185 : decode cX5_isRight 185 = .ok (.aload_n 1, 1) := dk_43 (dk_at dksX5_isRight_8 5 rfl rfl)
theorem dX5_isRight_186 : decode cX5_isRight 186 = .ok (.iconst 0, 1) := dk_3 (dk_at dksX5_isRight_8 6 rfl rfl)
theorem dX5_isRight_187 : decode cX5_isRight 187 = .ok (.iaload, 1) := dk_46 (dk_at dksX5_isRight_8 7 rfl rfl)
theorem dX5_isRight_188 : decode cX5_isRight 188 = .ok (.iastore, 1) := dk_79 (dk_at dksX5_isRight_8 8 rfl rfl)
theorem dX5_isRight_189 : decode cX5_isRight 189 = .ok (.dup, 1) := dk_89 (dk_at dksX5_isRight_8 9 rfl rfl)
theorem dX5_isRight_190 : decode cX5_isRight 190 = .ok (.iconst 2, 1) := dk_5 (dk_at dksX5_isRight_8 10 rfl rfl)
theorem dX5_isRight_191 : decode cX5_isRight 191 = .ok (.aload_n 1, 1) := dk_43 (dk_at dksX5_isRight_8 11 rfl rfl)
theorem dX5_isRight_192 : decode cX5_isRight 192 = .ok (.iconst 1, 1) := dk_4 (dk_at dksX5_isRight_8 12 rfl rfl)
theorem dX5_isRight_193 : decode cX5_isRight 193 = .ok (.iaload, 1) := dk_46 (dk_at dksX5_isRight_8 13 rfl rfl)
theorem dX5_isRight_194 : decode cX5_isRight 194 = .ok (.iastore, 1) := dk_79 (dk_at dksX5_isRight_8 14 rfl rfl)
theorem dX5_isRight_195 : decode cX5_isRight 195 = .ok (.dup, 1) := dk_89 (dk_at dksX5_isRight_8 15 rfl rfl)
theorem dX5_isRight_196 : decode cX5_isRight 196 = .ok (.iconst 3, 1) := dk_6 (dk_at dksX5_isRight_8 16 rfl rfl)
theorem dX5_isRight_197 : decode cX5_isRight 197 = .ok (.aload_n 1, 1) := dk_43 (dk_at dksX5_isRight_8 17 rfl rfl)
theorem dX5_isRight_198 : decode cX5_isRight 198 = .ok (.iconst 2, 1) := dk_5 (dk_at dksX5_isRight_8 18 rfl rfl)
theorem dX5_isRight_199 : decode cX5_isRight 199 = .ok (.iaload, 1) := dk_46 (dk_at dksX5_isRight_8 19 rfl rfl)
theorem dX5_isRight_200 : decode cX5_isRight 200 = .ok (.iastore, 1) := dk_79 (dk_at dksX5_isRight_8 20 rfl rfl)
theorem dX5_isRight_201 : decode cX5_isRight 201 = .ok (.dup, 1) := dk_89 (dk_at dksX5_isRight_8 21 rfl rfl)
theorem dX5_isRight_202 : decode cX5_isRight 202 = .ok (.iconst 4, 1) := dk_7 (dk_at dksX5_isRight_8 22 rfl rfl)
theorem dX5_isRight_203 : decode cX5_isRight 203 = .ok (.aload_n 1, 1) := dk_43 (dk_at dksX5_isRight_8 23 rfl rfl)
theorem dX5_isRight_204 : decode cX5_isRight 204 = .ok (.iconst 3, 1) := dk_6 (dk_at dksX5_isRight_9 0 rfl rfl)
theorem dX5_isRight_205 : decode cX5_isRight 205 = .ok (.iaload, 1) := dk_46 (dk_at dksX5_isRight_9 1 rfl rfl)
theorem dX5_isRight_206 : decode cX5_isRight 206 = .ok (.iastore, 1) := dk_79 (dk_at dksX5_isRight_9 2 rfl rfl)
theorem dX5_isRight_207 : decode cX5_isRight 207 = .ok (.dup, 1) := dk_89 (dk_at dksX5_isRight_9 3 rfl rfl)
theorem dX5_isRight_208 : decode cX5_isRight 208 = .ok (.iconst 5, 1) := dk_8 (dk_at dksX5_isRight_9 4 rfl rfl)
theorem dX5_isRight_209 : decode cX5_isRight 209 = .ok (.aload_n 1, 1) := dk_43 (dk_at dksX5_isRight_9 5 rfl rfl)
theorem dX5_isRight_210 : decode cX5_isRight 210 = .ok (.iconst 4, 1) := dk_7 (dk_at dksX5_isRight_9 6 rfl rfl)
theorem dX5_isRight_211 : decode cX5_isRight 211 = .ok (.iaload, 1) := dk_46 (dk_at dksX5_isRight_9 7 rfl rfl)
theorem dX5_isRight_212 : decode cX5_isRight 212 = .ok (.iastore, 1) := dk_79 (dk_at dksX5_isRight_9 8 rfl rfl)
theorem dX5_isRight_213 : decode cX5_isRight 213 = .ok (.invokestatic 43, 3) := dk_184 0 43 (dk_at dksX5_isRight_9 9 rfl rfl)
theorem dX5_isRight_216 : decode cX5_isRight 216 = .ok (.if_icmp .ne 7, 3) := dk_160 0 7 (dk_at dksX5_isRight_9 12 rfl rfl)
theorem dX5_isRight_219 : decode cX5_isRight 219 = .ok (.iconst 1, 1) := dk_4 (dk_at dksX5_isRight_9 15 rfl rfl)
theorem dX5_isRight_220 : decode cX5_isRight 220 = .ok (.goto 4, 3) := dk_167 0 4 (dk_at dksX5_isRight_9 16 rfl rfl)
theorem dX5_isRight_223 : decode cX5_isRight 223 = .ok (.iconst 0, 1) := dk_3 (dk_at dksX5_isRight_9 19 rfl rfl)
theorem dX5_isRight_224 : decode cX5_isRight 224 = .ok (.ireturn, 1) := dk_172 (dk_at dksX5_isRight_9 20 rfl rfl)
abbrev cX5_tell : ByteArray := prog_3_method_6_code
def yX5_tell : MethodName := ⟨RX5, "tell", "(I)I"⟩
def dkwX5_tell_1 : List UInt8 := [5, 160, 0, 10, 42, 180, 0, 25, 167, 0, 11, 42, 180, 0, 9, 27, 6, 100, 46, 172]
abbrev dktX5_tell_1 : List UInt8 := dkwX5_tell_1 ++ []
def dkwX5_tell_0 : List UInt8 := [27, 154, 0, 10, 42, 180, 0, 19, 167, 0, 35, 27, 4, 160, 0, 10, 42, 180, 0, 22, 167, 0, 23, 27]
abbrev dktX5_tell_0 : List UInt8 := dkwX5_tell_0 ++ dktX5_tell_1
theorem dksX5_tell_0 : cX5_tell.data.toList.drop 0 = dktX5_tell_0 := by decide +kernel
theorem dksX5_tell_1 : cX5_tell.data.toList.drop 24 = dktX5_tell_1 := dk_seg dksX5_tell_0 24 rfl rfl
theorem dX5_tell_0 : decode cX5_tell 0 = .ok (.iload_n 1, 1) := dk_27 (dk_at dksX5_tell_0 0 rfl rfl)
theorem dX5_tell_1 : decode cX5_tell 1 = .ok (.ifCond .ne 10, 3) := dk_154 0 10 (dk_at dksX5_tell_0 1 rfl rfl)
theorem dX5_tell_4 : decode cX5_tell 4 = .ok (.aload_n 0, 1) := dk_42 (dk_at dksX5_tell_0 4 rfl rfl)
theorem dX5_tell_5 : decode cX5_tell 5 = .ok (.getfield 19, 3) := dk_180 0 19 (dk_at dksX5_tell_0 5 rfl rfl)
theorem dX5_tell_8 : decode cX5_tell 8 = .ok (.goto 35, 3) := dk_167 0 35 (dk_at dksX5_tell_0 8 rfl rfl)
theorem dX5_tell_11 : decode cX5_tell 11 = .ok (.iload_n 1, 1) := dk_27 (dk_at dksX5_tell_0 11 rfl rfl)
theorem dX5_tell_12 : decode cX5_tell 12 = .ok (.iconst 1, 1) := dk_4 (dk_at dksX5_tell_0 12 rfl rfl)
theorem dX5_tell_13 : decode cX5_tell 13 = .ok (.if_icmp .ne 10, 3) := dk_160 0 10 (dk_at dksX5_tell_0 13 rfl rfl)
theorem dX5_tell_16 : decode cX5_tell 16 = .ok (.aload_n 0, 1) := dk_42 (dk_at dksX5_tell_0 16 rfl rfl)
theorem dX5_tell_17 : decode cX5_tell 17 = .ok (.getfield 22, 3) := dk_180 0 22 (dk_at dksX5_tell_0 17 rfl rfl)
theorem dX5_tell_20 : decode cX5_tell 20 = .ok (.goto 23, 3) := dk_167 0 23 (dk_at dksX5_tell_0 20 rfl rfl)
theorem dX5_tell_23 : decode cX5_tell 23 = .ok (.iload_n 1, 1) := dk_27 (dk_at dksX5_tell_0 23 rfl rfl)
theorem dX5_tell_24 : decode cX5_tell 24 = .ok (.iconst 2, 1) := dk_5 (dk_at dksX5_tell_1 0 rfl rfl)
theorem dX5_tell_25 : decode cX5_tell 25 = .ok (.if_icmp .ne 10, 3) := dk_160 0 10 (dk_at dksX5_tell_1 1 rfl rfl)
theorem dX5_tell_28 : decode cX5_tell 28 = .ok (.aload_n 0, 1) := dk_42 (dk_at dksX5_tell_1 4 rfl rfl)
theorem dX5_tell_29 : decode cX5_tell 29 = .ok (.getfield 25, 3) := dk_180 0 25 (dk_at dksX5_tell_1 5 rfl rfl)
theorem dX5_tell_32 : decode cX5_tell 32 = .ok (.goto 11, 3) := dk_167 0 11 (dk_at dksX5_tell_1 8 rfl rfl)
theorem dX5_tell_35 : decode cX5_tell 35 = .ok (.aload_n 0, 1) := dk_42 (dk_at dksX5_tell_1 11 rfl rfl)
theorem dX5_tell_36 : decode cX5_tell 36 = .ok (.getfield 9, 3) := dk_180 0 9 (dk_at dksX5_tell_1 12 rfl rfl)
theorem dX5_tell_39 : decode cX5_tell 39 = .ok (.iload_n 1, 1) := dk_27 (dk_at dksX5_tell_1 15 rfl rfl)
theorem dX5_tell_40 : decode cX5_tell 40 = .ok (.iconst 3, 1) := dk_6 (dk_at dksX5_tell_1 16 rfl rfl)
theorem dX5_tell_41 : decode cX5_tell 41 = .ok (.isub, 1) := dk_100 (dk_at dksX5_tell_1 17 rfl rfl)
theorem dX5_tell_42 : decode cX5_tell 42 = .ok (.iaload, 1) := dk_46 (dk_at dksX5_tell_1 18 rfl rfl)
theorem dX5_tell_43 : decode cX5_tell 43 = .ok (.ireturn, 1) := dk_172 (dk_at dksX5_tell_1 19 rfl rfl)
abbrev cX5_init : ByteArray := prog_3_method_1_code
def yX5_init : MethodName := ⟨RX5, "<init>", "(IIII[I)V"⟩
def dkwX5_init_2 : List UInt8 := [190, 184, 0, 31, 177]
abbrev dktX5_init_2 : List UInt8 := dkwX5_init_2 ++ []
def dkwX5_init_1 : List UInt8 := [181, 0, 22, 42, 29, 181, 0, 25, 42, 21, 4, 181, 0, 28, 25, 5, 3, 42, 180, 0, 9, 3, 25, 5]
abbrev dktX5_init_1 : List UInt8 := dkwX5_init_1 ++ dktX5_init_2
def dkwX5_init_0 : List UInt8 := [42, 183, 0, 3, 42, 16, 6, 188, 10, 181, 0, 9, 42, 2, 181, 0, 15, 42, 27, 181, 0, 19, 42, 28]
abbrev dktX5_init_0 : List UInt8 := dkwX5_init_0 ++ dktX5_init_1
theorem dksX5_init_0 : cX5_init.data.toList.drop 0 = dktX5_init_0 := by decide +kernel
theorem dksX5_init_1 : cX5_init.data.toList.drop 24 = dktX5_init_1 := dk_seg dksX5_init_0 24 rfl rfl
theorem dksX5_init_2 : cX5_init.data.toList.drop 48 = dktX5_init_2 := dk_seg dksX5_init_1 24 rfl rfl
theorem dX5_init_0 : decode cX5_init 0 = .ok (.aload_n 0, 1) := dk_42 (dk_at dksX5_init_0 0 rfl rfl)
theorem dX5_init_1 : decode cX5_init 1 = .ok (.invokespecial 3, 3) := dk_183 0 3 (dk_at dksX5_init_0 1 rfl rfl)
theorem dX5_init_4 : decode cX5_init 4 = .ok (.aload_n 0, 1) := dk_42 (dk_at dksX5_init_0 4 rfl rfl)
theorem dX5_init_5 : decode cX5_init 5 = .ok (.bipush 6, 2) := dk_16 6 (dk_at dksX5_init_0 5 rfl rfl)
theorem dX5_init_7 : decode cX5_init 7 = .ok (.newarray .int, 2) := dk_188_10 (dk_at dksX5_init_0 7 rfl rfl)
theorem dX5_init_9 : decode cX5_init 9 = .ok (.putfield 9, 3) := dk_181 0 9 (dk_at dksX5_init_0 9 rfl rfl)
theorem dX5_init_12 : decode cX5_init 12 = .ok (.aload_n 0, 1) := dk_42 (dk_at dksX5_init_0 12 rfl rfl)
theorem dX5_init_13 : decode cX5_init 13 = .ok (.iconst (-1), 1) := dk_2 (dk_at dksX5_init_0 13 rfl rfl)
theorem dX5_init_14 : decode cX5_init 14 = .ok (.putfield 15, 3) := dk_181 0 15 (dk_at dksX5_init_0 14 rfl rfl)
theorem dX5_init_17 : decode cX5_init 17 = .ok (.aload_n 0, 1) := dk_42 (dk_at dksX5_init_0 17 rfl rfl)
theorem dX5_init_18 : decode cX5_init 18 = .ok (.iload_n 1, 1) := dk_27 (dk_at dksX5_init_0 18 rfl rfl)
theorem dX5_init_19 : decode cX5_init 19 = .ok (.putfield 19, 3) := dk_181 0 19 (dk_at dksX5_init_0 19 rfl rfl)
theorem dX5_init_22 : decode cX5_init 22 = .ok (.aload_n 0, 1) := dk_42 (dk_at dksX5_init_0 22 rfl rfl)
theorem dX5_init_23 : decode cX5_init 23 = .ok (.iload_n 2, 1) := dk_28 (dk_at dksX5_init_0 23 rfl rfl)
theorem dX5_init_24 : decode cX5_init 24 = .ok (.putfield 22, 3) := dk_181 0 22 (dk_at dksX5_init_1 0 rfl rfl)
theorem dX5_init_27 : decode cX5_init 27 = .ok (.aload_n 0, 1) := dk_42 (dk_at dksX5_init_1 3 rfl rfl)
theorem dX5_init_28 : decode cX5_init 28 = .ok (.iload_n 3, 1) := dk_29 (dk_at dksX5_init_1 4 rfl rfl)
theorem dX5_init_29 : decode cX5_init 29 = .ok (.putfield 25, 3) := dk_181 0 25 (dk_at dksX5_init_1 5 rfl rfl)
theorem dX5_init_32 : decode cX5_init 32 = .ok (.aload_n 0, 1) := dk_42 (dk_at dksX5_init_1 8 rfl rfl)
theorem dX5_init_33 : decode cX5_init 33 = .ok (.iload 4, 2) := dk_21 4 (dk_at dksX5_init_1 9 rfl rfl)
theorem dX5_init_35 : decode cX5_init 35 = .ok (.putfield 28, 3) := dk_181 0 28 (dk_at dksX5_init_1 11 rfl rfl)
theorem dX5_init_38 : decode cX5_init 38 = .ok (.aload 5, 2) := dk_25 5 (dk_at dksX5_init_1 14 rfl rfl)
theorem dX5_init_40 : decode cX5_init 40 = .ok (.iconst 0, 1) := dk_3 (dk_at dksX5_init_1 16 rfl rfl)
theorem dX5_init_41 : decode cX5_init 41 = .ok (.aload_n 0, 1) := dk_42 (dk_at dksX5_init_1 17 rfl rfl)
theorem dX5_init_42 : decode cX5_init 42 = .ok (.getfield 9, 3) := dk_180 0 9 (dk_at dksX5_init_1 18 rfl rfl)
theorem dX5_init_45 : decode cX5_init 45 = .ok (.iconst 0, 1) := dk_3 (dk_at dksX5_init_1 21 rfl rfl)
theorem dX5_init_46 : decode cX5_init 46 = .ok (.aload 5, 2) := dk_25 5 (dk_at dksX5_init_1 22 rfl rfl)
theorem dX5_init_48 : decode cX5_init 48 = .ok (.arraylength, 1) := dk_190 (dk_at dksX5_init_2 0 rfl rfl)
theorem dX5_init_49 : decode cX5_init 49 = .ok (.invokestatic 31, 3) := dk_184 0 31 (dk_at dksX5_init_2 1 rfl rfl)
theorem dX5_init_52 : decode cX5_init 52 = .ok (.return_, 1) := dk_177 (dk_at dksX5_init_2 4 rfl rfl)
abbrev cX5_init_2 : ByteArray := prog_3_method_2_code
def yX5_init_2 : MethodName := ⟨RX5, "<init>", "(LBurrowline$Letter;)V"⟩
def dkwX5_init_2_1 : List UInt8 := [42, 43, 180, 0, 15, 181, 0, 15, 42, 43, 180, 0, 40, 181, 0, 40, 177]
abbrev dktX5_init_2_1 : List UInt8 := dkwX5_init_2_1 ++ []
def dkwX5_init_2_0 : List UInt8 := [42, 43, 180, 0, 19, 43, 180, 0, 22, 43, 180, 0, 25, 43, 180, 0, 28, 43, 180, 0, 9, 183, 0, 37]
abbrev dktX5_init_2_0 : List UInt8 := dkwX5_init_2_0 ++ dktX5_init_2_1
theorem dksX5_init_2_0 : cX5_init_2.data.toList.drop 0 = dktX5_init_2_0 := by decide +kernel
theorem dksX5_init_2_1 : cX5_init_2.data.toList.drop 24 = dktX5_init_2_1 := dk_seg dksX5_init_2_0 24 rfl rfl
theorem dX5_init_2_0 : decode cX5_init_2 0 = .ok (.aload_n 0, 1) := dk_42 (dk_at dksX5_init_2_0 0 rfl rfl)
theorem dX5_init_2_1 : decode cX5_init_2 1 = .ok (.aload_n 1, 1) := dk_43 (dk_at dksX5_init_2_0 1 rfl rfl)
theorem dX5_init_2_2 : decode cX5_init_2 2 = .ok (.getfield 19, 3) := dk_180 0 19 (dk_at dksX5_init_2_0 2 rfl rfl)
theorem dX5_init_2_5 : decode cX5_init_2 5 = .ok (.aload_n 1, 1) := dk_43 (dk_at dksX5_init_2_0 5 rfl rfl)
theorem dX5_init_2_6 : decode cX5_init_2 6 = .ok (.getfield 22, 3) := dk_180 0 22 (dk_at dksX5_init_2_0 6 rfl rfl)
theorem dX5_init_2_9 : decode cX5_init_2 9 = .ok (.aload_n 1, 1) := dk_43 (dk_at dksX5_init_2_0 9 rfl rfl)
theorem dX5_init_2_10 : decode cX5_init_2 10 = .ok (.getfield 25, 3) := dk_180 0 25 (dk_at dksX5_init_2_0 10 rfl rfl)
theorem dX5_init_2_13 : decode cX5_init_2 13 = .ok (.aload_n 1, 1) := dk_43 (dk_at dksX5_init_2_0 13 rfl rfl)
theorem dX5_init_2_14 : decode cX5_init_2 14 = .ok (.getfield 28, 3) := dk_180 0 28 (dk_at dksX5_init_2_0 14 rfl rfl)
theorem dX5_init_2_17 : decode cX5_init_2 17 = .ok (.aload_n 1, 1) := dk_43 (dk_at dksX5_init_2_0 17 rfl rfl)
theorem dX5_init_2_18 : decode cX5_init_2 18 = .ok (.getfield 9, 3) := dk_180 0 9 (dk_at dksX5_init_2_0 18 rfl rfl)
theorem dX5_init_2_21 : decode cX5_init_2 21 = .ok (.invokespecial 37, 3) := dk_183 0 37 (dk_at dksX5_init_2_0 21 rfl rfl)
theorem dX5_init_2_24 : decode cX5_init_2 24 = .ok (.aload_n 0, 1) := dk_42 (dk_at dksX5_init_2_1 0 rfl rfl)
theorem dX5_init_2_25 : decode cX5_init_2 25 = .ok (.aload_n 1, 1) := dk_43 (dk_at dksX5_init_2_1 1 rfl rfl)
theorem dX5_init_2_26 : decode cX5_init_2 26 = .ok (.getfield 15, 3) := dk_180 0 15 (dk_at dksX5_init_2_1 2 rfl rfl)
theorem dX5_init_2_29 : decode cX5_init_2 29 = .ok (.putfield 15, 3) := dk_181 0 15 (dk_at dksX5_init_2_1 5 rfl rfl)
theorem dX5_init_2_32 : decode cX5_init_2 32 = .ok (.aload_n 0, 1) := dk_42 (dk_at dksX5_init_2_1 8 rfl rfl)
theorem dX5_init_2_33 : decode cX5_init_2 33 = .ok (.aload_n 1, 1) := dk_43 (dk_at dksX5_init_2_1 9 rfl rfl)
theorem dX5_init_2_34 : decode cX5_init_2 34 = .ok (.getfield 40, 3) := dk_180 0 40 (dk_at dksX5_init_2_1 10 rfl rfl)
theorem dX5_init_2_37 : decode cX5_init_2 37 = .ok (.putfield 40, 3) := dk_181 0 40 (dk_at dksX5_init_2_1 13 rfl rfl)
theorem dX5_init_2_40 : decode cX5_init_2 40 = .ok (.return_, 1) := dk_177 (dk_at dksX5_init_2_1 16 rfl rfl)
abbrev cX5_mayTurn : ByteArray := prog_3_method_3_code
def yX5_mayTurn : MethodName := ⟨RX5, "mayTurn", "(I)Z"⟩
def dkwX5_mayTurn_4 : List UInt8 := [161, 0, 12, 27, 8, 163, 0, 7, 4, 167, 0, 4, 3, 172]
abbrev dktX5_mayTurn_4 : List UInt8 := dkwX5_mayTurn_4 ++ []
def dkwX5_mayTurn_3 : List UInt8 := [167, 0, 4, 3, 172, 27, 4, 159, 0, 8, 27, 5, 160, 0, 7, 4, 167, 0, 4, 3, 172, 27, 4]
abbrev dktX5_mayTurn_3 : List UInt8 := dkwX5_mayTurn_3 ++ dktX5_mayTurn_4
def dkwX5_mayTurn_2 : List UInt8 := [27, 6, 159, 0, 8, 27, 7, 160, 0, 7, 4, 167, 0, 4, 3, 172, 27, 6, 160, 0, 7, 4]
abbrev dktX5_mayTurn_2 : List UInt8 := dkwX5_mayTurn_2 ++ dktX5_mayTurn_3
def dkwX5_mayTurn_1 : List UInt8 := [170, 0, 0, 0, 0, 0, 0, 71, 0, 0, 0, 1, 0, 0, 0, 3, 0, 0, 0, 28, 0, 0, 0, 44, 0, 0, 0, 55]
abbrev dktX5_mayTurn_1 : List UInt8 := dkwX5_mayTurn_1 ++ dktX5_mayTurn_2
def dkwX5_mayTurn_0 : List UInt8 := [42, 180, 0, 25]
abbrev dktX5_mayTurn_0 : List UInt8 := dkwX5_mayTurn_0 ++ dktX5_mayTurn_1
theorem dksX5_mayTurn_0 : cX5_mayTurn.data.toList.drop 0 = dktX5_mayTurn_0 := by decide +kernel
theorem dksX5_mayTurn_1 : cX5_mayTurn.data.toList.drop 4 = dktX5_mayTurn_1 := dk_seg dksX5_mayTurn_0 4 rfl rfl
theorem dksX5_mayTurn_2 : cX5_mayTurn.data.toList.drop 32 = dktX5_mayTurn_2 := dk_seg dksX5_mayTurn_1 28 rfl rfl
theorem dksX5_mayTurn_3 : cX5_mayTurn.data.toList.drop 54 = dktX5_mayTurn_3 := dk_seg dksX5_mayTurn_2 22 rfl rfl
theorem dksX5_mayTurn_4 : cX5_mayTurn.data.toList.drop 77 = dktX5_mayTurn_4 := dk_seg dksX5_mayTurn_3 23 rfl rfl
theorem dX5_mayTurn_0 : decode cX5_mayTurn 0 = .ok (.aload_n 0, 1) := dk_42 (dk_at dksX5_mayTurn_0 0 rfl rfl)
theorem dX5_mayTurn_1 : decode cX5_mayTurn 1 = .ok (.getfield 25, 3) := dk_180 0 25 (dk_at dksX5_mayTurn_0 1 rfl rfl)
theorem dX5_mayTurn_4 : decode cX5_mayTurn 4 = .ok (.tableswitch 71 1 3 #[28, 44, 55], 28) := by decide +kernel
theorem dX5_mayTurn_32 : decode cX5_mayTurn 32 = .ok (.iload_n 1, 1) := dk_27 (dk_at dksX5_mayTurn_2 0 rfl rfl)
theorem dX5_mayTurn_33 : decode cX5_mayTurn 33 = .ok (.iconst 3, 1) := dk_6 (dk_at dksX5_mayTurn_2 1 rfl rfl)
theorem dX5_mayTurn_34 : decode cX5_mayTurn 34 = .ok (.if_icmp .eq 8, 3) := dk_159 0 8 (dk_at dksX5_mayTurn_2 2 rfl rfl)
theorem dX5_mayTurn_37 : decode cX5_mayTurn 37 = .ok (.iload_n 1, 1) := dk_27 (dk_at dksX5_mayTurn_2 5 rfl rfl)
theorem dX5_mayTurn_38 : decode cX5_mayTurn 38 = .ok (.iconst 4, 1) := dk_7 (dk_at dksX5_mayTurn_2 6 rfl rfl)
theorem dX5_mayTurn_39 : decode cX5_mayTurn 39 = .ok (.if_icmp .ne 7, 3) := dk_160 0 7 (dk_at dksX5_mayTurn_2 7 rfl rfl)
theorem dX5_mayTurn_42 : decode cX5_mayTurn 42 = .ok (.iconst 1, 1) := dk_4 (dk_at dksX5_mayTurn_2 10 rfl rfl)
theorem dX5_mayTurn_43 : decode cX5_mayTurn 43 = .ok (.goto 4, 3) := dk_167 0 4 (dk_at dksX5_mayTurn_2 11 rfl rfl)
theorem dX5_mayTurn_46 : decode cX5_mayTurn 46 = .ok (.iconst 0, 1) := dk_3 (dk_at dksX5_mayTurn_2 14 rfl rfl)
theorem dX5_mayTurn_47 : decode cX5_mayTurn 47 = .ok (.ireturn, 1) := dk_172 (dk_at dksX5_mayTurn_2 15 rfl rfl)
theorem dX5_mayTurn_48 : decode cX5_mayTurn 48 = .ok (.iload_n 1, 1) := dk_27 (dk_at dksX5_mayTurn_2 16 rfl rfl)
theorem dX5_mayTurn_49 : decode cX5_mayTurn 49 = .ok (.iconst 3, 1) := dk_6 (dk_at dksX5_mayTurn_2 17 rfl rfl)
theorem dX5_mayTurn_50 : decode cX5_mayTurn 50 = .ok (.if_icmp .ne 7, 3) := dk_160 0 7 (dk_at dksX5_mayTurn_2 18 rfl rfl)
theorem dX5_mayTurn_53 : decode cX5_mayTurn 53 = .ok (.iconst 1, 1) := dk_4 (dk_at dksX5_mayTurn_2 21 rfl rfl)
theorem dX5_mayTurn_54 : decode cX5_mayTurn 54 = .ok (.goto 4, 3) := dk_167 0 4 (dk_at dksX5_mayTurn_3 0 rfl rfl)
theorem dX5_mayTurn_57 : decode cX5_mayTurn 57 = .ok (.iconst 0, 1) := dk_3 (dk_at dksX5_mayTurn_3 3 rfl rfl)
theorem dX5_mayTurn_58 : decode cX5_mayTurn 58 = .ok (.ireturn, 1) := dk_172 (dk_at dksX5_mayTurn_3 4 rfl rfl)
theorem dX5_mayTurn_59 : decode cX5_mayTurn 59 = .ok (.iload_n 1, 1) := dk_27 (dk_at dksX5_mayTurn_3 5 rfl rfl)
theorem dX5_mayTurn_60 : decode cX5_mayTurn 60 = .ok (.iconst 1, 1) := dk_4 (dk_at dksX5_mayTurn_3 6 rfl rfl)
theorem dX5_mayTurn_61 : decode cX5_mayTurn 61 = .ok (.if_icmp .eq 8, 3) := dk_159 0 8 (dk_at dksX5_mayTurn_3 7 rfl rfl)
theorem dX5_mayTurn_64 : decode cX5_mayTurn 64 = .ok (.iload_n 1, 1) := dk_27 (dk_at dksX5_mayTurn_3 10 rfl rfl)
theorem dX5_mayTurn_65 : decode cX5_mayTurn 65 = .ok (.iconst 2, 1) := dk_5 (dk_at dksX5_mayTurn_3 11 rfl rfl)
theorem dX5_mayTurn_66 : decode cX5_mayTurn 66 = .ok (.if_icmp .ne 7, 3) := dk_160 0 7 (dk_at dksX5_mayTurn_3 12 rfl rfl)
theorem dX5_mayTurn_69 : decode cX5_mayTurn 69 = .ok (.iconst 1, 1) := dk_4 (dk_at dksX5_mayTurn_3 15 rfl rfl)
theorem dX5_mayTurn_70 : decode cX5_mayTurn 70 = .ok (.goto 4, 3) := dk_167 0 4 (dk_at dksX5_mayTurn_3 16 rfl rfl)
theorem dX5_mayTurn_73 : decode cX5_mayTurn 73 = .ok (.iconst 0, 1) := dk_3 (dk_at dksX5_mayTurn_3 19 rfl rfl)
theorem dX5_mayTurn_74 : decode cX5_mayTurn 74 = .ok (.ireturn, 1) := dk_172 (dk_at dksX5_mayTurn_3 20 rfl rfl)
theorem dX5_mayTurn_75 : decode cX5_mayTurn 75 = .ok (.iload_n 1, 1) := dk_27 (dk_at dksX5_mayTurn_3 21 rfl rfl)
theorem dX5_mayTurn_76 : decode cX5_mayTurn 76 = .ok (.iconst 1, 1) := dk_4 (dk_at dksX5_mayTurn_3 22 rfl rfl)
theorem dX5_mayTurn_77 : decode cX5_mayTurn 77 = .ok (.if_icmp .lt 12, 3) := dk_161 0 12 (dk_at dksX5_mayTurn_4 0 rfl rfl)
theorem dX5_mayTurn_80 : decode cX5_mayTurn 80 = .ok (.iload_n 1, 1) := dk_27 (dk_at dksX5_mayTurn_4 3 rfl rfl)
theorem dX5_mayTurn_81 : decode cX5_mayTurn 81 = .ok (.iconst 5, 1) := dk_8 (dk_at dksX5_mayTurn_4 4 rfl rfl)
theorem dX5_mayTurn_82 : decode cX5_mayTurn 82 = .ok (.if_icmp .gt 7, 3) := dk_163 0 7 (dk_at dksX5_mayTurn_4 5 rfl rfl)
theorem dX5_mayTurn_85 : decode cX5_mayTurn 85 = .ok (.iconst 1, 1) := dk_4 (dk_at dksX5_mayTurn_4 8 rfl rfl)
theorem dX5_mayTurn_86 : decode cX5_mayTurn 86 = .ok (.goto 4, 3) := dk_167 0 4 (dk_at dksX5_mayTurn_4 9 rfl rfl)
theorem dX5_mayTurn_89 : decode cX5_mayTurn 89 = .ok (.iconst 0, 1) := dk_3 (dk_at dksX5_mayTurn_4 12 rfl rfl)
theorem dX5_mayTurn_90 : decode cX5_mayTurn 90 = .ok (.ireturn, 1) := dk_172 (dk_at dksX5_mayTurn_4 13 rfl rfl)
theorem q81 : (Jvm.Cond.initialized "Burrowline$Letter") ∈ lw_all := lw_g (lw_at lw_m1 22 rfl) rfl
theorem q188 : (Jvm.Cond.selects "Burrowline$Letter" ({ cls := "java/lang/Object", name := "getClass", desc := "()Ljava/lang/Class;" } : Jvm.MethodName) ({ cls := "java/lang/Object", name := "getClass", desc := "()Ljava/lang/Class;" } : Jvm.MethodName)) ∈ lw_all := lw_g (lw_at lw_m1 129 rfl) rfl
theorem q446 : (Jvm.Cond.privateMethod ({ cls := "Burrowline$Letter", name := "isTurned", desc := "()Z" } : Jvm.MethodName)) ∈ lw_tbl := lw_at lw_m2 147 rfl
theorem q447 : (Jvm.Cond.instanceMethod ({ cls := "Burrowline$Letter", name := "isTurned", desc := "()Z" } : Jvm.MethodName)) ∈ lw_all := lw_g (lw_at lw_m2 148 rfl) rfl
theorem q448 : (Jvm.Cond.instantiable "Burrowline$Letter" (7 : Nat)) ∈ lw_all := lw_g (lw_at lw_m2 149 rfl) rfl
theorem q449 : (Jvm.Cond.code ({ cls := "Burrowline$Letter", name := "isTurned", desc := "()Z" } : Jvm.MethodName) prog_3_method_4_code (1 : Nat) (Option.some Jvm.ClassFile.FieldType.boolean)) ∈ lw_all := lw_g (lw_at lw_m2 150 rfl) rfl
theorem q451 : (Jvm.Cond.privateMethod ({ cls := "Burrowline$Letter", name := "isRight", desc := "()Z" } : Jvm.MethodName)) ∈ lw_tbl := lw_at lw_m2 152 rfl
theorem q452 : (Jvm.Cond.instanceMethod ({ cls := "Burrowline$Letter", name := "isRight", desc := "()Z" } : Jvm.MethodName)) ∈ lw_all := lw_g (lw_at lw_m2 153 rfl) rfl
theorem q453 : (Jvm.Cond.code ({ cls := "Burrowline$Letter", name := "isRight", desc := "()Z" } : Jvm.MethodName) prog_3_method_5_code (2 : Nat) (Option.some Jvm.ClassFile.FieldType.boolean)) ∈ lw_all := lw_g (lw_at lw_m2 154 rfl) rfl
theorem q454 : (Jvm.Cond.methodLinkNest "Burrowline$Letter" (43 : Nat) ({ cls := "Burrowline", name := "sealOf", desc := "(I[I)I" } : Jvm.MethodName) "Burrowline") ∈ lw_tbl := lw_at lw_m2 155 rfl
theorem q484 : (Jvm.Cond.privateMethod ({ cls := "Burrowline$Letter", name := "tell", desc := "(I)I" } : Jvm.MethodName)) ∈ lw_tbl := lw_at lw_m2 185 rfl
theorem q485 : (Jvm.Cond.instanceMethod ({ cls := "Burrowline$Letter", name := "tell", desc := "(I)I" } : Jvm.MethodName)) ∈ lw_all := lw_g (lw_at lw_m2 186 rfl) rfl
theorem q486 : (Jvm.Cond.code ({ cls := "Burrowline$Letter", name := "tell", desc := "(I)I" } : Jvm.MethodName) prog_3_method_6_code (2 : Nat) (Option.some Jvm.ClassFile.FieldType.int)) ∈ lw_all := lw_g (lw_at lw_m2 187 rfl) rfl
theorem q649 : (Jvm.Cond.instanceMethod ({ cls := "Burrowline$Letter", name := "<init>", desc := "(IIII[I)V" } : Jvm.MethodName)) ∈ lw_all := lw_g (lw_at lw_m3 110 rfl) rfl
theorem q650 : (Jvm.Cond.code ({ cls := "Burrowline$Letter", name := "<init>", desc := "(IIII[I)V" } : Jvm.MethodName) prog_3_method_1_code (6 : Nat) (Option.none : Option Jvm.ClassFile.FieldType)) ∈ lw_all := lw_g (lw_at lw_m3 111 rfl) rfl
theorem q651 : (Jvm.Cond.methodLink "Burrowline$Letter" (3 : Nat) ({ cls := "java/lang/Object", name := "<init>", desc := "()V" } : Jvm.MethodName)) ∈ lw_all := lw_g (lw_at lw_m3 112 rfl) rfl
theorem q652 : (Jvm.Cond.methodLink "Burrowline$Letter" (31 : Nat) ({ cls := "java/lang/System", name := "arraycopy", desc := "(Ljava/lang/Object;ILjava/lang/Object;II)V" } : Jvm.MethodName)) ∈ lw_all := lw_g (lw_at lw_m3 113 rfl) rfl
theorem q653 : (Jvm.Cond.fieldLink "Burrowline$Letter" (19 : Nat) "Burrowline$Letter" "from" "I") ∈ lw_all := lw_g (lw_at lw_m3 114 rfl) rfl
theorem q655 : (Jvm.Cond.fieldLink "Burrowline$Letter" (22 : Nat) "Burrowline$Letter" "to" "I") ∈ lw_all := lw_g (lw_at lw_m3 116 rfl) rfl
theorem q657 : (Jvm.Cond.fieldLink "Burrowline$Letter" (25 : Nat) "Burrowline$Letter" "kind" "I") ∈ lw_all := lw_g (lw_at lw_m3 118 rfl) rfl
theorem q659 : (Jvm.Cond.fieldLink "Burrowline$Letter" (28 : Nat) "Burrowline$Letter" "key" "I") ∈ lw_all := lw_g (lw_at lw_m3 120 rfl) rfl
theorem q660 : (Jvm.Cond.fieldLink "Burrowline$Letter" (9 : Nat) "Burrowline$Letter" "fields" "[I") ∈ lw_all := lw_g (lw_at lw_m3 121 rfl) rfl
theorem q662 : (Jvm.Cond.fieldLink "Burrowline$Letter" (15 : Nat) "Burrowline$Letter" "turned" "I") ∈ lw_all := lw_g (lw_at lw_m3 123 rfl) rfl
theorem q664 : (Jvm.Cond.fieldLink "Burrowline$Letter" (40 : Nat) "Burrowline$Letter" "sent" "I") ∈ lw_all := lw_g (lw_at lw_m3 125 rfl) rfl
theorem q666 : (Jvm.Cond.lays "Burrowline$Letter" "Burrowline$Letter" "from" "I") ∈ lw_all := lw_g (lw_at lw_m3 127 rfl) rfl
theorem q667 : (Jvm.Cond.soleField "Burrowline$Letter" "from") ∈ lw_all := lw_g (lw_at lw_m3 128 rfl) rfl
theorem q668 : (Jvm.Cond.laysFinal "Burrowline$Letter" "Burrowline$Letter" "to" "I") ∈ lw_all := lw_g (lw_at lw_m3 129 rfl) rfl
theorem q669 : (Jvm.Cond.soleField "Burrowline$Letter" "to") ∈ lw_all := lw_g (lw_at lw_m3 130 rfl) rfl
theorem q670 : (Jvm.Cond.laysFinal "Burrowline$Letter" "Burrowline$Letter" "kind" "I") ∈ lw_all := lw_g (lw_at lw_m3 131 rfl) rfl
theorem q671 : (Jvm.Cond.soleField "Burrowline$Letter" "kind") ∈ lw_all := lw_g (lw_at lw_m3 132 rfl) rfl
theorem q672 : (Jvm.Cond.laysFinal "Burrowline$Letter" "Burrowline$Letter" "key" "I") ∈ lw_all := lw_g (lw_at lw_m3 133 rfl) rfl
theorem q673 : (Jvm.Cond.soleField "Burrowline$Letter" "key") ∈ lw_all := lw_g (lw_at lw_m3 134 rfl) rfl
theorem q674 : (Jvm.Cond.laysFinal "Burrowline$Letter" "Burrowline$Letter" "fields" "[I") ∈ lw_all := lw_g (lw_at lw_m3 135 rfl) rfl
theorem q675 : (Jvm.Cond.soleField "Burrowline$Letter" "fields") ∈ lw_all := lw_g (lw_at lw_m3 136 rfl) rfl
theorem q676 : (Jvm.Cond.lays "Burrowline$Letter" "Burrowline$Letter" "turned" "I") ∈ lw_all := lw_g (lw_at lw_m3 137 rfl) rfl
theorem q677 : (Jvm.Cond.soleField "Burrowline$Letter" "turned") ∈ lw_all := lw_g (lw_at lw_m3 138 rfl) rfl
theorem q678 : (Jvm.Cond.lays "Burrowline$Letter" "Burrowline$Letter" "sent" "I") ∈ lw_all := lw_g (lw_at lw_m3 139 rfl) rfl
theorem q679 : (Jvm.Cond.soleField "Burrowline$Letter" "sent") ∈ lw_all := lw_g (lw_at lw_m3 140 rfl) rfl
theorem q680 : (Jvm.Cond.superclass "Burrowline$Letter" "java/lang/Object") ∈ lw_all := lw_g (lw_at lw_m3 141 rfl) rfl
theorem q891 : (Jvm.Cond.instanceMethod ({ cls := "Burrowline$Letter", name := "<init>", desc := "(LBurrowline$Letter;)V" } : Jvm.MethodName)) ∈ lw_all := lw_g (lw_at lw_m4 112 rfl) rfl
theorem q892 : (Jvm.Cond.code ({ cls := "Burrowline$Letter", name := "<init>", desc := "(LBurrowline$Letter;)V" } : Jvm.MethodName) prog_3_method_2_code (2 : Nat) (Option.none : Option Jvm.ClassFile.FieldType)) ∈ lw_all := lw_g (lw_at lw_m4 113 rfl) rfl
theorem q893 : (Jvm.Cond.methodLink "Burrowline$Letter" (37 : Nat) ({ cls := "Burrowline$Letter", name := "<init>", desc := "(IIII[I)V" } : Jvm.MethodName)) ∈ lw_all := lw_g (lw_at lw_m4 114 rfl) rfl
theorem q902 : (Jvm.Cond.privateMethod ({ cls := "Burrowline$Letter", name := "mayTurn", desc := "(I)Z" } : Jvm.MethodName)) ∈ lw_tbl := lw_at lw_m4 123 rfl
theorem q903 : (Jvm.Cond.instanceMethod ({ cls := "Burrowline$Letter", name := "mayTurn", desc := "(I)Z" } : Jvm.MethodName)) ∈ lw_all := lw_g (lw_at lw_m4 124 rfl) rfl
theorem q904 : (Jvm.Cond.code ({ cls := "Burrowline$Letter", name := "mayTurn", desc := "(I)Z" } : Jvm.MethodName) prog_3_method_3_code (2 : Nat) (Option.some Jvm.ClassFile.FieldType.boolean)) ∈ lw_all := lw_g (lw_at lw_m4 125 rfl) rfl
theorem q1494 : (Jvm.Cond.castable "Burrowline$Letter" "java/lang/Object") ∈ lw_tbl := lw_at lw_m6 235 rfl
theorem in_X5 : ∀ w ∈ wsX50, w ∈ lw_all := lw_in wsX50 [666, 668, 670, 672, 674, 676, 678] (by decide +kernel) (by decide +kernel)
/-! Burrowline$Flight -/
set_option maxRecDepth 100000
def RX6 : String := "Burrowline$Flight"
def TX6 : u_T := fun k => match k with
  | 0 => ("Burrowline$Flight", "index", "I", true)
  | 1 => ("Burrowline$Flight", "secret", "I", true)
  | 2 => ("Burrowline$Flight", "key", "I", true)
  | 3 => ("Burrowline$Flight", "tag", "I", true)
  | _ => ("Burrowline$Flight", "at", "I", true)
def tyX6 : Nat → FieldType := fun k => match k with
  | 0 => .int
  | 1 => .int
  | 2 => .int
  | 3 => .int
  | _ => .int
abbrev wsX60 : List Cond := u_ws RX6 TX6 5
theorem nmX6 : ∀ a, a < 5 → ∀ b, b < 5 → a ≠ b → (TX6 a).2.1 ≠ (TX6 b).2.1 := by decide +kernel
theorem tyX6_ok : ∀ k, k < 5 → parseFieldDescriptor (TX6 k).2.2.1 = some (tyX6 k) := by decide +kernel
abbrev cX6_init : ByteArray := prog_2_method_1_code
def yX6_init : MethodName := ⟨RX6, "<init>", "(IIIII)V"⟩
def dkwX6_init_1 : List UInt8 := [181, 0, 19, 42, 21, 5, 181, 0, 22, 177]
abbrev dktX6_init_1 : List UInt8 := dkwX6_init_1 ++ []
def dkwX6_init_0 : List UInt8 := [42, 183, 0, 1, 42, 27, 181, 0, 7, 42, 28, 181, 0, 13, 42, 29, 181, 0, 16, 42, 21, 4]
abbrev dktX6_init_0 : List UInt8 := dkwX6_init_0 ++ dktX6_init_1
theorem dksX6_init_0 : cX6_init.data.toList.drop 0 = dktX6_init_0 := by decide +kernel
theorem dksX6_init_1 : cX6_init.data.toList.drop 22 = dktX6_init_1 := dk_seg dksX6_init_0 22 rfl rfl
theorem dX6_init_0 : decode cX6_init 0 = .ok (.aload_n 0, 1) := dk_42 (dk_at dksX6_init_0 0 rfl rfl)
theorem dX6_init_1 : decode cX6_init 1 = .ok (.invokespecial 1, 3) := dk_183 0 1 (dk_at dksX6_init_0 1 rfl rfl)
theorem dX6_init_4 : decode cX6_init 4 = .ok (.aload_n 0, 1) := dk_42 (dk_at dksX6_init_0 4 rfl rfl)
theorem dX6_init_5 : decode cX6_init 5 = .ok (.iload_n 1, 1) := dk_27 (dk_at dksX6_init_0 5 rfl rfl)
theorem dX6_init_6 : decode cX6_init 6 = .ok (.putfield 7, 3) := dk_181 0 7 (dk_at dksX6_init_0 6 rfl rfl)
theorem dX6_init_9 : decode cX6_init 9 = .ok (.aload_n 0, 1) := dk_42 (dk_at dksX6_init_0 9 rfl rfl)
theorem dX6_init_10 : decode cX6_init 10 = .ok (.iload_n 2, 1) := dk_28 (dk_at dksX6_init_0 10 rfl rfl)
theorem dX6_init_11 : decode cX6_init 11 = .ok (.putfield 13, 3) := dk_181 0 13 (dk_at dksX6_init_0 11 rfl rfl)
theorem dX6_init_14 : decode cX6_init 14 = .ok (.aload_n 0, 1) := dk_42 (dk_at dksX6_init_0 14 rfl rfl)
theorem dX6_init_15 : decode cX6_init 15 = .ok (.iload_n 3, 1) := dk_29 (dk_at dksX6_init_0 15 rfl rfl)
theorem dX6_init_16 : decode cX6_init 16 = .ok (.putfield 16, 3) := dk_181 0 16 (dk_at dksX6_init_0 16 rfl rfl)
theorem dX6_init_19 : decode cX6_init 19 = .ok (.aload_n 0, 1) := dk_42 (dk_at dksX6_init_0 19 rfl rfl)
theorem dX6_init_20 : decode cX6_init 20 = .ok (.iload 4, 2) := dk_21 4 (dk_at dksX6_init_0 20 rfl rfl)
theorem dX6_init_22 : decode cX6_init 22 = .ok (.putfield 19, 3) := dk_181 0 19 (dk_at dksX6_init_1 0 rfl rfl)
theorem dX6_init_25 : decode cX6_init 25 = .ok (.aload_n 0, 1) := dk_42 (dk_at dksX6_init_1 3 rfl rfl)
theorem dX6_init_26 : decode cX6_init 26 = .ok (.iload 5, 2) := dk_21 5 (dk_at dksX6_init_1 4 rfl rfl)
theorem dX6_init_28 : decode cX6_init 28 = .ok (.putfield 22, 3) := dk_181 0 22 (dk_at dksX6_init_1 6 rfl rfl)
theorem dX6_init_31 : decode cX6_init 31 = .ok (.return_, 1) := dk_177 (dk_at dksX6_init_1 9 rfl rfl)
theorem q82 : (Jvm.Cond.initialized "Burrowline$Flight") ∈ lw_all := lw_g (lw_at lw_m1 23 rfl) rfl
theorem q187 : (Jvm.Cond.selects "Burrowline$Flight" ({ cls := "java/lang/Object", name := "getClass", desc := "()Ljava/lang/Class;" } : Jvm.MethodName) ({ cls := "java/lang/Object", name := "getClass", desc := "()Ljava/lang/Class;" } : Jvm.MethodName)) ∈ lw_all := lw_g (lw_at lw_m1 128 rfl) rfl
theorem q712 : (Jvm.Cond.instantiable "Burrowline$Flight" (5 : Nat)) ∈ lw_all := lw_g (lw_at lw_m3 173 rfl) rfl
theorem q714 : (Jvm.Cond.instanceMethod ({ cls := "Burrowline$Flight", name := "<init>", desc := "(IIIII)V" } : Jvm.MethodName)) ∈ lw_all := lw_g (lw_at lw_m3 175 rfl) rfl
theorem q715 : (Jvm.Cond.code ({ cls := "Burrowline$Flight", name := "<init>", desc := "(IIIII)V" } : Jvm.MethodName) prog_2_method_1_code (6 : Nat) (Option.none : Option Jvm.ClassFile.FieldType)) ∈ lw_all := lw_g (lw_at lw_m3 176 rfl) rfl
theorem q716 : (Jvm.Cond.methodLink "Burrowline$Flight" (1 : Nat) ({ cls := "java/lang/Object", name := "<init>", desc := "()V" } : Jvm.MethodName)) ∈ lw_all := lw_g (lw_at lw_m3 177 rfl) rfl
theorem q717 : (Jvm.Cond.fieldLink "Burrowline$Flight" (7 : Nat) "Burrowline$Flight" "index" "I") ∈ lw_all := lw_g (lw_at lw_m3 178 rfl) rfl
theorem q719 : (Jvm.Cond.fieldLink "Burrowline$Flight" (13 : Nat) "Burrowline$Flight" "secret" "I") ∈ lw_all := lw_g (lw_at lw_m3 180 rfl) rfl
theorem q721 : (Jvm.Cond.fieldLink "Burrowline$Flight" (16 : Nat) "Burrowline$Flight" "key" "I") ∈ lw_all := lw_g (lw_at lw_m3 182 rfl) rfl
theorem q723 : (Jvm.Cond.fieldLink "Burrowline$Flight" (19 : Nat) "Burrowline$Flight" "tag" "I") ∈ lw_all := lw_g (lw_at lw_m3 184 rfl) rfl
theorem q725 : (Jvm.Cond.fieldLink "Burrowline$Flight" (22 : Nat) "Burrowline$Flight" "at" "I") ∈ lw_all := lw_g (lw_at lw_m3 186 rfl) rfl
theorem q727 : (Jvm.Cond.laysFinal "Burrowline$Flight" "Burrowline$Flight" "index" "I") ∈ lw_all := lw_g (lw_at lw_m3 188 rfl) rfl
theorem q728 : (Jvm.Cond.soleField "Burrowline$Flight" "index") ∈ lw_all := lw_g (lw_at lw_m3 189 rfl) rfl
theorem q729 : (Jvm.Cond.laysFinal "Burrowline$Flight" "Burrowline$Flight" "secret" "I") ∈ lw_all := lw_g (lw_at lw_m3 190 rfl) rfl
theorem q730 : (Jvm.Cond.soleField "Burrowline$Flight" "secret") ∈ lw_all := lw_g (lw_at lw_m3 191 rfl) rfl
theorem q731 : (Jvm.Cond.laysFinal "Burrowline$Flight" "Burrowline$Flight" "key" "I") ∈ lw_all := lw_g (lw_at lw_m3 192 rfl) rfl
theorem q732 : (Jvm.Cond.soleField "Burrowline$Flight" "key") ∈ lw_all := lw_g (lw_at lw_m3 193 rfl) rfl
theorem q733 : (Jvm.Cond.laysFinal "Burrowline$Flight" "Burrowline$Flight" "tag" "I") ∈ lw_all := lw_g (lw_at lw_m3 194 rfl) rfl
theorem q734 : (Jvm.Cond.soleField "Burrowline$Flight" "tag") ∈ lw_all := lw_g (lw_at lw_m3 195 rfl) rfl
theorem q735 : (Jvm.Cond.laysFinal "Burrowline$Flight" "Burrowline$Flight" "at" "I") ∈ lw_all := lw_g (lw_at lw_m3 196 rfl) rfl
theorem q736 : (Jvm.Cond.soleField "Burrowline$Flight" "at") ∈ lw_all := lw_g (lw_at lw_m3 197 rfl) rfl
theorem q737 : (Jvm.Cond.superclass "Burrowline$Flight" "java/lang/Object") ∈ lw_all := lw_g (lw_at lw_m3 198 rfl) rfl
theorem q1495 : (Jvm.Cond.castable "Burrowline$Flight" "java/lang/Object") ∈ lw_tbl := lw_at lw_m6 236 rfl
theorem in_X6 : ∀ w ∈ wsX60, w ∈ lw_all := lw_in wsX60 [727, 729, 731, 733, 735] (by decide +kernel) (by decide +kernel)
/-! Burrowline$Session -/
set_option maxRecDepth 100000
def RX7 : String := "Burrowline$Session"
def TX7 : u_T := fun k => match k with
  | 0 => ("Burrowline$Session", "index", "I", true)
  | 1 => ("Burrowline$Session", "other", "I", true)
  | 2 => ("Burrowline$Session", "made", "I", true)
  | 3 => ("Burrowline$Session", "sending", "I", true)
  | 4 => ("Burrowline$Session", "receiving", "I", true)
  | 5 => ("Burrowline$Session", "isBegun", "Z", true)
  | 6 => ("Burrowline$Session", "taken", "[Z", true)
  | 7 => ("Burrowline$Session", "sealed", "I", false)
  | 8 => ("Burrowline$Session", "greatest", "I", false)
  | _ => ("Burrowline$Session", "took", "I", false)
def tyX7 : Nat → FieldType := fun k => match k with
  | 0 => .int
  | 1 => .int
  | 2 => .int
  | 3 => .int
  | 4 => .int
  | 5 => .boolean
  | 6 => .array .boolean
  | 7 => .int
  | 8 => .int
  | _ => .int
abbrev wsX70 : List Cond := u_ws RX7 TX7 10
theorem nmX7 : ∀ a, a < 10 → ∀ b, b < 10 → a ≠ b → (TX7 a).2.1 ≠ (TX7 b).2.1 := by decide +kernel
theorem tyX7_ok : ∀ k, k < 10 → parseFieldDescriptor (TX7 k).2.2.1 = some (tyX7 k) := by decide +kernel
abbrev cX7_isSound : ByteArray := prog_4_method_4_code
def yX7_isSound : MethodName := ⟨RX7, "isSound", "()Z"⟩
def dkwX7_isSound_2 : List UInt8 := [180, 0, 47, 16, 40, 163, 0, 7, 4, 167, 0, 4, 3, 172]
abbrev dktX7_isSound_2 : List UInt8 := dkwX7_isSound_2 ++ []
def dkwX7_isSound_1 : List UInt8 := [180, 0, 15, 164, 0, 5, 3, 172, 132, 2, 1, 167, 255, 225, 27, 42, 180, 0, 38, 160, 0, 16, 42]
abbrev dktX7_isSound_1 : List UInt8 := dkwX7_isSound_1 ++ dktX7_isSound_2
def dkwX7_isSound_0 : List UInt8 := [3, 60, 3, 61, 28, 16, 40, 162, 0, 31, 42, 180, 0, 9, 28, 51, 153, 0, 16, 132, 1, 1, 28, 42]
abbrev dktX7_isSound_0 : List UInt8 := dkwX7_isSound_0 ++ dktX7_isSound_1
theorem dksX7_isSound_0 : cX7_isSound.data.toList.drop 0 = dktX7_isSound_0 := by decide +kernel
theorem dksX7_isSound_1 : cX7_isSound.data.toList.drop 24 = dktX7_isSound_1 := dk_seg dksX7_isSound_0 24 rfl rfl
theorem dksX7_isSound_2 : cX7_isSound.data.toList.drop 47 = dktX7_isSound_2 := dk_seg dksX7_isSound_1 23 rfl rfl
theorem dX7_isSound_0 : decode cX7_isSound 0 = .ok (.iconst 0, 1) := dk_3 (dk_at dksX7_isSound_0 0 rfl rfl)
theorem dX7_isSound_1 : decode cX7_isSound 1 = .ok (.istore_n 1, 1) := dk_60 (dk_at dksX7_isSound_0 1 rfl rfl)
theorem dX7_isSound_2 : decode cX7_isSound 2 = .ok (.iconst 0, 1) := dk_3 (dk_at dksX7_isSound_0 2 rfl rfl)
theorem dX7_isSound_3 : decode cX7_isSound 3 = .ok (.istore_n 2, 1) := dk_61 (dk_at dksX7_isSound_0 3 rfl rfl)
theorem dX7_isSound_4 : decode cX7_isSound 4 = .ok (.iload_n 2, 1) := dk_28 (dk_at dksX7_isSound_0 4 rfl rfl)
theorem dX7_isSound_5 : decode cX7_isSound 5 = .ok (.bipush 40, 2) := dk_16 40 (dk_at dksX7_isSound_0 5 rfl rfl)
theorem dX7_isSound_7 : decode cX7_isSound 7 = .ok (.if_icmp .ge 31, 3) := dk_162 0 31 (dk_at dksX7_isSound_0 7 rfl rfl)
theorem dX7_isSound_10 : decode cX7_isSound 10 = .ok (.aload_n 0, 1) := dk_42 (dk_at dksX7_isSound_0 10 rfl rfl)
theorem dX7_isSound_11 : decode cX7_isSound 11 = .ok (.getfield 9, 3) := dk_180 0 9 (dk_at dksX7_isSound_0 11 rfl rfl)
theorem dX7_isSound_14 : decode cX7_isSound 14 = .ok (.iload_n 2, 1) := dk_28 (dk_at dksX7_isSound_0 14 rfl rfl)
theorem dX7_isSound_15 : decode cX7_isSound 15 = .ok (.baload, 1) := dk_51 (dk_at dksX7_isSound_0 15 rfl rfl)
theorem dX7_isSound_16 : decode cX7_isSound 16 = .ok (.ifCond .eq 16, 3) := dk_153 0 16 (dk_at dksX7_isSound_0 16 rfl rfl)
theorem dX7_isSound_19 : decode cX7_isSound 19 = .ok (.iinc 1 1, 3) := dk_132 1 1 (dk_at dksX7_isSound_0 19 rfl rfl)
theorem dX7_isSound_22 : decode cX7_isSound 22 = .ok (.iload_n 2, 1) := dk_28 (dk_at dksX7_isSound_0 22 rfl rfl)
theorem dX7_isSound_23 : decode cX7_isSound 23 = .ok (.aload_n 0, 1) := dk_42 (dk_at dksX7_isSound_0 23 rfl rfl)
theorem dX7_isSound_24 : decode cX7_isSound 24 = .ok (.getfield 15, 3) := dk_180 0 15 (dk_at dksX7_isSound_1 0 rfl rfl)
theorem dX7_isSound_27 : decode cX7_isSound 27 = .ok (.if_icmp .le 5, 3) := dk_164 0 5 (dk_at dksX7_isSound_1 3 rfl rfl)
theorem dX7_isSound_30 : decode cX7_isSound 30 = .ok (.iconst 0, 1) := dk_3 (dk_at dksX7_isSound_1 6 rfl rfl)
theorem dX7_isSound_31 : decode cX7_isSound 31 = .ok (.ireturn, 1) := dk_172 (dk_at dksX7_isSound_1 7 rfl rfl)
theorem dX7_isSound_32 : decode cX7_isSound 32 = .ok (.iinc 2 1, 3) := dk_132 2 1 (dk_at dksX7_isSound_1 8 rfl rfl)
theorem dX7_isSound_35 : decode cX7_isSound 35 = .ok (.goto (-31), 3) := dk_167 255 225 (dk_at dksX7_isSound_1 11 rfl rfl)
theorem dX7_isSound_38 : decode cX7_isSound 38 = .ok (.iload_n 1, 1) := dk_27 (dk_at dksX7_isSound_1 14 rfl rfl)
theorem dX7_isSound_39 : decode cX7_isSound 39 = .ok (.aload_n 0, 1) := dk_42 (dk_at dksX7_isSound_1 15 rfl rfl)
theorem dX7_isSound_40 : decode cX7_isSound 40 = .ok (.getfield 38, 3) := dk_180 0 38 (dk_at dksX7_isSound_1 16 rfl rfl)
theorem dX7_isSound_43 : decode cX7_isSound 43 = .ok (.if_icmp .ne 16, 3) := dk_160 0 16 (dk_at dksX7_isSound_1 19 rfl rfl)
theorem dX7_isSound_46 : decode cX7_isSound 46 = .ok (.aload_n 0, 1) := dk_42 (dk_at dksX7_isSound_1 22 rfl rfl)
theorem dX7_isSound_47 : decode cX7_isSound 47 = .ok (.getfield 47, 3) := dk_180 0 47 (dk_at dksX7_isSound_2 0 rfl rfl)
theorem dX7_isSound_50 : decode cX7_isSound 50 = .ok (.bipush 40, 2) := dk_16 40 (dk_at dksX7_isSound_2 3 rfl rfl)
theorem dX7_isSound_52 : decode cX7_isSound 52 = .ok (.if_icmp .gt 7, 3) := dk_163 0 7 (dk_at dksX7_isSound_2 5 rfl rfl)
theorem dX7_isSound_55 : decode cX7_isSound 55 = .ok (.iconst 1, 1) := dk_4 (dk_at dksX7_isSound_2 8 rfl rfl)
theorem dX7_isSound_56 : decode cX7_isSound 56 = .ok (.goto 4, 3) := dk_167 0 4 (dk_at dksX7_isSound_2 9 rfl rfl)
theorem dX7_isSound_59 : decode cX7_isSound 59 = .ok (.iconst 0, 1) := dk_3 (dk_at dksX7_isSound_2 12 rfl rfl)
theorem dX7_isSound_60 : decode cX7_isSound 60 = .ok (.ireturn, 1) := dk_172 (dk_at dksX7_isSound_2 13 rfl rfl)
abbrev cX7_init : ByteArray := prog_4_method_1_code
def yX7_init : MethodName := ⟨RX7, "<init>", "(IIIIIZ)V"⟩
def dkwX7_init_2 : List UInt8 := [181, 0, 34, 177]
abbrev dktX7_init_2 : List UInt8 := dkwX7_init_2 ++ []
def dkwX7_init_1 : List UInt8 := [181, 0, 22, 42, 29, 181, 0, 25, 42, 21, 4, 181, 0, 28, 42, 21, 5, 181, 0, 31, 42, 21, 6]
abbrev dktX7_init_1 : List UInt8 := dkwX7_init_1 ++ dktX7_init_2
def dkwX7_init_0 : List UInt8 := [42, 183, 0, 3, 42, 16, 40, 188, 4, 181, 0, 9, 42, 2, 181, 0, 15, 42, 27, 181, 0, 19, 42, 28]
abbrev dktX7_init_0 : List UInt8 := dkwX7_init_0 ++ dktX7_init_1
theorem dksX7_init_0 : cX7_init.data.toList.drop 0 = dktX7_init_0 := by decide +kernel
theorem dksX7_init_1 : cX7_init.data.toList.drop 24 = dktX7_init_1 := dk_seg dksX7_init_0 24 rfl rfl
theorem dksX7_init_2 : cX7_init.data.toList.drop 47 = dktX7_init_2 := dk_seg dksX7_init_1 23 rfl rfl
theorem dX7_init_0 : decode cX7_init 0 = .ok (.aload_n 0, 1) := dk_42 (dk_at dksX7_init_0 0 rfl rfl)
theorem dX7_init_1 : decode cX7_init 1 = .ok (.invokespecial 3, 3) := dk_183 0 3 (dk_at dksX7_init_0 1 rfl rfl)
theorem dX7_init_4 : decode cX7_init 4 = .ok (.aload_n 0, 1) := dk_42 (dk_at dksX7_init_0 4 rfl rfl)
theorem dX7_init_5 : decode cX7_init 5 = .ok (.bipush 40, 2) := dk_16 40 (dk_at dksX7_init_0 5 rfl rfl)
theorem dX7_init_7 : decode cX7_init 7 = .ok (.newarray .boolean, 2) := dk_188_4 (dk_at dksX7_init_0 7 rfl rfl)
theorem dX7_init_9 : decode cX7_init 9 = .ok (.putfield 9, 3) := dk_181 0 9 (dk_at dksX7_init_0 9 rfl rfl)
theorem dX7_init_12 : decode cX7_init 12 = .ok (.aload_n 0, 1) := dk_42 (dk_at dksX7_init_0 12 rfl rfl)
theorem dX7_init_13 : decode cX7_init 13 = .ok (.iconst (-1), 1) := dk_2 (dk_at dksX7_init_0 13 rfl rfl)
theorem dX7_init_14 : decode cX7_init 14 = .ok (.putfield 15, 3) := dk_181 0 15 (dk_at dksX7_init_0 14 rfl rfl)
theorem dX7_init_17 : decode cX7_init 17 = .ok (.aload_n 0, 1) := dk_42 (dk_at dksX7_init_0 17 rfl rfl)
theorem dX7_init_18 : decode cX7_init 18 = .ok (.iload_n 1, 1) := dk_27 (dk_at dksX7_init_0 18 rfl rfl)
theorem dX7_init_19 : decode cX7_init 19 = .ok (.putfield 19, 3) := dk_181 0 19 (dk_at dksX7_init_0 19 rfl rfl)
theorem dX7_init_22 : decode cX7_init 22 = .ok (.aload_n 0, 1) := dk_42 (dk_at dksX7_init_0 22 rfl rfl)
theorem dX7_init_23 : decode cX7_init 23 = .ok (.iload_n 2, 1) := dk_28 (dk_at dksX7_init_0 23 rfl rfl)
theorem dX7_init_24 : decode cX7_init 24 = .ok (.putfield 22, 3) := dk_181 0 22 (dk_at dksX7_init_1 0 rfl rfl)
theorem dX7_init_27 : decode cX7_init 27 = .ok (.aload_n 0, 1) := dk_42 (dk_at dksX7_init_1 3 rfl rfl)
theorem dX7_init_28 : decode cX7_init 28 = .ok (.iload_n 3, 1) := dk_29 (dk_at dksX7_init_1 4 rfl rfl)
theorem dX7_init_29 : decode cX7_init 29 = .ok (.putfield 25, 3) := dk_181 0 25 (dk_at dksX7_init_1 5 rfl rfl)
theorem dX7_init_32 : decode cX7_init 32 = .ok (.aload_n 0, 1) := dk_42 (dk_at dksX7_init_1 8 rfl rfl)
theorem dX7_init_33 : decode cX7_init 33 = .ok (.iload 4, 2) := dk_21 4 (dk_at dksX7_init_1 9 rfl rfl)
theorem dX7_init_35 : decode cX7_init 35 = .ok (.putfield 28, 3) := dk_181 0 28 (dk_at dksX7_init_1 11 rfl rfl)
theorem dX7_init_38 : decode cX7_init 38 = .ok (.aload_n 0, 1) := dk_42 (dk_at dksX7_init_1 14 rfl rfl)
theorem dX7_init_39 : decode cX7_init 39 = .ok (.iload 5, 2) := dk_21 5 (dk_at dksX7_init_1 15 rfl rfl)
theorem dX7_init_41 : decode cX7_init 41 = .ok (.putfield 31, 3) := dk_181 0 31 (dk_at dksX7_init_1 17 rfl rfl)
theorem dX7_init_44 : decode cX7_init 44 = .ok (.aload_n 0, 1) := dk_42 (dk_at dksX7_init_1 20 rfl rfl)
theorem dX7_init_45 : decode cX7_init 45 = .ok (.iload 6, 2) := dk_21 6 (dk_at dksX7_init_1 21 rfl rfl)
theorem dX7_init_47 : decode cX7_init 47 = .ok (.putfield 34, 3) := dk_181 0 34 (dk_at dksX7_init_2 0 rfl rfl)
theorem dX7_init_50 : decode cX7_init 50 = .ok (.return_, 1) := dk_177 (dk_at dksX7_init_2 3 rfl rfl)
abbrev cX7_mayTake : ByteArray := prog_4_method_2_code
def yX7_mayTake : MethodName := ⟨RX7, "mayTake", "(I)Z"⟩
def dkwX7_mayTake_1 : List UInt8 := [159, 0, 14, 27, 42, 180, 0, 15, 16, 16, 100, 164, 0, 7, 4, 167, 0, 4, 3, 172]
abbrev dktX7_mayTake_1 : List UInt8 := dkwX7_mayTake_1 ++ []
def dkwX7_mayTake_0 : List UInt8 := [27, 155, 0, 41, 27, 16, 40, 162, 0, 35, 42, 180, 0, 9, 27, 51, 154, 0, 26, 42, 180, 0, 15, 2]
abbrev dktX7_mayTake_0 : List UInt8 := dkwX7_mayTake_0 ++ dktX7_mayTake_1
theorem dksX7_mayTake_0 : cX7_mayTake.data.toList.drop 0 = dktX7_mayTake_0 := by decide +kernel
theorem dksX7_mayTake_1 : cX7_mayTake.data.toList.drop 24 = dktX7_mayTake_1 := dk_seg dksX7_mayTake_0 24 rfl rfl
theorem dX7_mayTake_0 : decode cX7_mayTake 0 = .ok (.iload_n 1, 1) := dk_27 (dk_at dksX7_mayTake_0 0 rfl rfl)
theorem dX7_mayTake_1 : decode cX7_mayTake 1 = .ok (.ifCond .lt 41, 3) := dk_155 0 41 (dk_at dksX7_mayTake_0 1 rfl rfl)
theorem dX7_mayTake_4 : decode cX7_mayTake 4 = .ok (.iload_n 1, 1) := dk_27 (dk_at dksX7_mayTake_0 4 rfl rfl)
theorem dX7_mayTake_5 : decode cX7_mayTake 5 = .ok (.bipush 40, 2) := dk_16 40 (dk_at dksX7_mayTake_0 5 rfl rfl)
theorem dX7_mayTake_7 : decode cX7_mayTake 7 = .ok (.if_icmp .ge 35, 3) := dk_162 0 35 (dk_at dksX7_mayTake_0 7 rfl rfl)
theorem dX7_mayTake_10 : decode cX7_mayTake 10 = .ok (.aload_n 0, 1) := dk_42 (dk_at dksX7_mayTake_0 10 rfl rfl)
theorem dX7_mayTake_11 : decode cX7_mayTake 11 = .ok (.getfield 9, 3) := dk_180 0 9 (dk_at dksX7_mayTake_0 11 rfl rfl)
theorem dX7_mayTake_14 : decode cX7_mayTake 14 = .ok (.iload_n 1, 1) := dk_27 (dk_at dksX7_mayTake_0 14 rfl rfl)
theorem dX7_mayTake_15 : decode cX7_mayTake 15 = .ok (.baload, 1) := dk_51 (dk_at dksX7_mayTake_0 15 rfl rfl)
theorem dX7_mayTake_16 : decode cX7_mayTake 16 = .ok (.ifCond .ne 26, 3) := dk_154 0 26 (dk_at dksX7_mayTake_0 16 rfl rfl)
theorem dX7_mayTake_19 : decode cX7_mayTake 19 = .ok (.aload_n 0, 1) := dk_42 (dk_at dksX7_mayTake_0 19 rfl rfl)
theorem dX7_mayTake_20 : decode cX7_mayTake 20 = .ok (.getfield 15, 3) := dk_180 0 15 (dk_at dksX7_mayTake_0 20 rfl rfl)
theorem dX7_mayTake_23 : decode cX7_mayTake 23 = .ok (.iconst (-1), 1) := dk_2 (dk_at dksX7_mayTake_0 23 rfl rfl)
theorem dX7_mayTake_24 : decode cX7_mayTake 24 = .ok (.if_icmp .eq 14, 3) := dk_159 0 14 (dk_at dksX7_mayTake_1 0 rfl rfl)
theorem dX7_mayTake_27 : decode cX7_mayTake 27 = .ok (.iload_n 1, 1) := dk_27 (dk_at dksX7_mayTake_1 3 rfl rfl)
theorem dX7_mayTake_28 : decode cX7_mayTake 28 = .ok (.aload_n 0, 1) := dk_42 (dk_at dksX7_mayTake_1 4 rfl rfl)
theorem dX7_mayTake_29 : decode cX7_mayTake 29 = .ok (.getfield 15, 3) := dk_180 0 15 (dk_at dksX7_mayTake_1 5 rfl rfl)
theorem dX7_mayTake_32 : decode cX7_mayTake 32 = .ok (.bipush 16, 2) := dk_16 16 (dk_at dksX7_mayTake_1 8 rfl rfl)
theorem dX7_mayTake_34 : decode cX7_mayTake 34 = .ok (.isub, 1) := dk_100 (dk_at dksX7_mayTake_1 10 rfl rfl)
theorem dX7_mayTake_35 : decode cX7_mayTake 35 = .ok (.if_icmp .le 7, 3) := dk_164 0 7 (dk_at dksX7_mayTake_1 11 rfl rfl)
theorem dX7_mayTake_38 : decode cX7_mayTake 38 = .ok (.iconst 1, 1) := dk_4 (dk_at dksX7_mayTake_1 14 rfl rfl)
theorem dX7_mayTake_39 : decode cX7_mayTake 39 = .ok (.goto 4, 3) := dk_167 0 4 (dk_at dksX7_mayTake_1 15 rfl rfl)
theorem dX7_mayTake_42 : decode cX7_mayTake 42 = .ok (.iconst 0, 1) := dk_3 (dk_at dksX7_mayTake_1 18 rfl rfl)
theorem dX7_mayTake_43 : decode cX7_mayTake 43 = .ok (.ireturn, 1) := dk_172 (dk_at dksX7_mayTake_1 19 rfl rfl)
abbrev cX7_take : ByteArray := prog_4_method_3_code
def yX7_take : MethodName := ⟨RX7, "take", "(I)V"⟩
def dkwX7_take_1 : List UInt8 := [184, 0, 41, 181, 0, 15, 177]
abbrev dktX7_take_1 : List UInt8 := dkwX7_take_1 ++ []
def dkwX7_take_0 : List UInt8 := [42, 180, 0, 9, 27, 4, 84, 42, 89, 180, 0, 38, 4, 96, 181, 0, 38, 42, 42, 180, 0, 15, 27]
abbrev dktX7_take_0 : List UInt8 := dkwX7_take_0 ++ dktX7_take_1
theorem dksX7_take_0 : cX7_take.data.toList.drop 0 = dktX7_take_0 := by decide +kernel
theorem dksX7_take_1 : cX7_take.data.toList.drop 23 = dktX7_take_1 := dk_seg dksX7_take_0 23 rfl rfl
theorem dX7_take_0 : decode cX7_take 0 = .ok (.aload_n 0, 1) := dk_42 (dk_at dksX7_take_0 0 rfl rfl)
theorem dX7_take_1 : decode cX7_take 1 = .ok (.getfield 9, 3) := dk_180 0 9 (dk_at dksX7_take_0 1 rfl rfl)
theorem dX7_take_4 : decode cX7_take 4 = .ok (.iload_n 1, 1) := dk_27 (dk_at dksX7_take_0 4 rfl rfl)
theorem dX7_take_5 : decode cX7_take 5 = .ok (.iconst 1, 1) := dk_4 (dk_at dksX7_take_0 5 rfl rfl)
theorem dX7_take_6 : decode cX7_take 6 = .ok (.bastore, 1) := dk_84 (dk_at dksX7_take_0 6 rfl rfl)
theorem dX7_take_7 : decode cX7_take 7 = .ok (.aload_n 0, 1) := dk_42 (dk_at dksX7_take_0 7 rfl rfl)
theorem dX7_take_8 : decode cX7_take 8 = .ok (.dup, 1) := dk_89 (dk_at dksX7_take_0 8 rfl rfl)
theorem dX7_take_9 : decode cX7_take 9 = .ok (.getfield 38, 3) := dk_180 0 38 (dk_at dksX7_take_0 9 rfl rfl)
theorem dX7_take_12 : decode cX7_take 12 = .ok (.iconst 1, 1) := dk_4 (dk_at dksX7_take_0 12 rfl rfl)
theorem dX7_take_13 : decode cX7_take 13 = .ok (.iadd, 1) := dk_96 (dk_at dksX7_take_0 13 rfl rfl)
theorem dX7_take_14 : decode cX7_take 14 = .ok (.putfield 38, 3) := dk_181 0 38 (dk_at dksX7_take_0 14 rfl rfl)
theorem dX7_take_17 : decode cX7_take 17 = .ok (.aload_n 0, 1) := dk_42 (dk_at dksX7_take_0 17 rfl rfl)
theorem dX7_take_18 : decode cX7_take 18 = .ok (.aload_n 0, 1) := dk_42 (dk_at dksX7_take_0 18 rfl rfl)
theorem dX7_take_19 : decode cX7_take 19 = .ok (.getfield 15, 3) := dk_180 0 15 (dk_at dksX7_take_0 19 rfl rfl)
theorem dX7_take_22 : decode cX7_take 22 = .ok (.iload_n 1, 1) := dk_27 (dk_at dksX7_take_0 22 rfl rfl)
theorem dX7_take_23 : decode cX7_take 23 = .ok (.invokestatic 41, 3) := dk_184 0 41 (dk_at dksX7_take_1 0 rfl rfl)
theorem dX7_take_26 : decode cX7_take 26 = .ok (.putfield 15, 3) := dk_181 0 15 (dk_at dksX7_take_1 3 rfl rfl)
theorem dX7_take_29 : decode cX7_take 29 = .ok (.return_, 1) := dk_177 (dk_at dksX7_take_1 6 rfl rfl)
theorem q85 : (Jvm.Cond.initialized "Burrowline$Session") ∈ lw_all := lw_g (lw_at lw_m1 26 rfl) rfl
theorem q189 : (Jvm.Cond.selects "Burrowline$Session" ({ cls := "java/lang/Object", name := "getClass", desc := "()Ljava/lang/Class;" } : Jvm.MethodName) ({ cls := "java/lang/Object", name := "getClass", desc := "()Ljava/lang/Class;" } : Jvm.MethodName)) ∈ lw_all := lw_g (lw_at lw_m1 130 rfl) rfl
theorem q440 : (Jvm.Cond.privateMethod ({ cls := "Burrowline$Session", name := "isSound", desc := "()Z" } : Jvm.MethodName)) ∈ lw_tbl := lw_at lw_m2 141 rfl
theorem q441 : (Jvm.Cond.instanceMethod ({ cls := "Burrowline$Session", name := "isSound", desc := "()Z" } : Jvm.MethodName)) ∈ lw_all := lw_g (lw_at lw_m2 142 rfl) rfl
theorem q442 : (Jvm.Cond.instantiable "Burrowline$Session" (10 : Nat)) ∈ lw_all := lw_g (lw_at lw_m2 143 rfl) rfl
theorem q443 : (Jvm.Cond.code ({ cls := "Burrowline$Session", name := "isSound", desc := "()Z" } : Jvm.MethodName) prog_4_method_4_code (3 : Nat) (Option.some Jvm.ClassFile.FieldType.boolean)) ∈ lw_all := lw_g (lw_at lw_m2 144 rfl) rfl
theorem q799 : (Jvm.Cond.instanceMethod ({ cls := "Burrowline$Session", name := "<init>", desc := "(IIIIIZ)V" } : Jvm.MethodName)) ∈ lw_all := lw_g (lw_at lw_m4 20 rfl) rfl
theorem q800 : (Jvm.Cond.code ({ cls := "Burrowline$Session", name := "<init>", desc := "(IIIIIZ)V" } : Jvm.MethodName) prog_4_method_1_code (7 : Nat) (Option.none : Option Jvm.ClassFile.FieldType)) ∈ lw_all := lw_g (lw_at lw_m4 21 rfl) rfl
theorem q801 : (Jvm.Cond.methodLink "Burrowline$Session" (3 : Nat) ({ cls := "java/lang/Object", name := "<init>", desc := "()V" } : Jvm.MethodName)) ∈ lw_all := lw_g (lw_at lw_m4 22 rfl) rfl
theorem q802 : (Jvm.Cond.fieldLink "Burrowline$Session" (19 : Nat) "Burrowline$Session" "index" "I") ∈ lw_all := lw_g (lw_at lw_m4 23 rfl) rfl
theorem q804 : (Jvm.Cond.fieldLink "Burrowline$Session" (22 : Nat) "Burrowline$Session" "other" "I") ∈ lw_all := lw_g (lw_at lw_m4 25 rfl) rfl
theorem q806 : (Jvm.Cond.fieldLink "Burrowline$Session" (25 : Nat) "Burrowline$Session" "made" "I") ∈ lw_all := lw_g (lw_at lw_m4 27 rfl) rfl
theorem q808 : (Jvm.Cond.fieldLink "Burrowline$Session" (28 : Nat) "Burrowline$Session" "sending" "I") ∈ lw_all := lw_g (lw_at lw_m4 29 rfl) rfl
theorem q810 : (Jvm.Cond.fieldLink "Burrowline$Session" (31 : Nat) "Burrowline$Session" "receiving" "I") ∈ lw_all := lw_g (lw_at lw_m4 31 rfl) rfl
theorem q812 : (Jvm.Cond.fieldLink "Burrowline$Session" (34 : Nat) "Burrowline$Session" "isBegun" "Z") ∈ lw_all := lw_g (lw_at lw_m4 33 rfl) rfl
theorem q814 : (Jvm.Cond.fieldLink "Burrowline$Session" (9 : Nat) "Burrowline$Session" "taken" "[Z") ∈ lw_all := lw_g (lw_at lw_m4 35 rfl) rfl
theorem q815 : (Jvm.Cond.fieldLink "Burrowline$Session" (47 : Nat) "Burrowline$Session" "sealed" "I") ∈ lw_all := lw_g (lw_at lw_m4 36 rfl) rfl
theorem q817 : (Jvm.Cond.fieldLink "Burrowline$Session" (15 : Nat) "Burrowline$Session" "greatest" "I") ∈ lw_all := lw_g (lw_at lw_m4 38 rfl) rfl
theorem q819 : (Jvm.Cond.fieldLink "Burrowline$Session" (38 : Nat) "Burrowline$Session" "took" "I") ∈ lw_all := lw_g (lw_at lw_m4 40 rfl) rfl
theorem q821 : (Jvm.Cond.laysFinal "Burrowline$Session" "Burrowline$Session" "index" "I") ∈ lw_all := lw_g (lw_at lw_m4 42 rfl) rfl
theorem q822 : (Jvm.Cond.soleField "Burrowline$Session" "index") ∈ lw_all := lw_g (lw_at lw_m4 43 rfl) rfl
theorem q823 : (Jvm.Cond.laysFinal "Burrowline$Session" "Burrowline$Session" "other" "I") ∈ lw_all := lw_g (lw_at lw_m4 44 rfl) rfl
theorem q824 : (Jvm.Cond.soleField "Burrowline$Session" "other") ∈ lw_all := lw_g (lw_at lw_m4 45 rfl) rfl
theorem q825 : (Jvm.Cond.laysFinal "Burrowline$Session" "Burrowline$Session" "made" "I") ∈ lw_all := lw_g (lw_at lw_m4 46 rfl) rfl
theorem q826 : (Jvm.Cond.soleField "Burrowline$Session" "made") ∈ lw_all := lw_g (lw_at lw_m4 47 rfl) rfl
theorem q827 : (Jvm.Cond.laysFinal "Burrowline$Session" "Burrowline$Session" "sending" "I") ∈ lw_all := lw_g (lw_at lw_m4 48 rfl) rfl
theorem q828 : (Jvm.Cond.soleField "Burrowline$Session" "sending") ∈ lw_all := lw_g (lw_at lw_m4 49 rfl) rfl
theorem q829 : (Jvm.Cond.laysFinal "Burrowline$Session" "Burrowline$Session" "receiving" "I") ∈ lw_all := lw_g (lw_at lw_m4 50 rfl) rfl
theorem q830 : (Jvm.Cond.soleField "Burrowline$Session" "receiving") ∈ lw_all := lw_g (lw_at lw_m4 51 rfl) rfl
theorem q831 : (Jvm.Cond.laysFinal "Burrowline$Session" "Burrowline$Session" "isBegun" "Z") ∈ lw_all := lw_g (lw_at lw_m4 52 rfl) rfl
theorem q832 : (Jvm.Cond.soleField "Burrowline$Session" "isBegun") ∈ lw_all := lw_g (lw_at lw_m4 53 rfl) rfl
theorem q833 : (Jvm.Cond.laysFinal "Burrowline$Session" "Burrowline$Session" "taken" "[Z") ∈ lw_all := lw_g (lw_at lw_m4 54 rfl) rfl
theorem q834 : (Jvm.Cond.soleField "Burrowline$Session" "taken") ∈ lw_all := lw_g (lw_at lw_m4 55 rfl) rfl
theorem q835 : (Jvm.Cond.lays "Burrowline$Session" "Burrowline$Session" "sealed" "I") ∈ lw_all := lw_g (lw_at lw_m4 56 rfl) rfl
theorem q836 : (Jvm.Cond.soleField "Burrowline$Session" "sealed") ∈ lw_all := lw_g (lw_at lw_m4 57 rfl) rfl
theorem q837 : (Jvm.Cond.lays "Burrowline$Session" "Burrowline$Session" "greatest" "I") ∈ lw_all := lw_g (lw_at lw_m4 58 rfl) rfl
theorem q838 : (Jvm.Cond.soleField "Burrowline$Session" "greatest") ∈ lw_all := lw_g (lw_at lw_m4 59 rfl) rfl
theorem q839 : (Jvm.Cond.lays "Burrowline$Session" "Burrowline$Session" "took" "I") ∈ lw_all := lw_g (lw_at lw_m4 60 rfl) rfl
theorem q840 : (Jvm.Cond.soleField "Burrowline$Session" "took") ∈ lw_all := lw_g (lw_at lw_m4 61 rfl) rfl
theorem q841 : (Jvm.Cond.superclass "Burrowline$Session" "java/lang/Object") ∈ lw_all := lw_g (lw_at lw_m4 62 rfl) rfl
theorem q868 : (Jvm.Cond.privateMethod ({ cls := "Burrowline$Session", name := "mayTake", desc := "(I)Z" } : Jvm.MethodName)) ∈ lw_tbl := lw_at lw_m4 89 rfl
theorem q869 : (Jvm.Cond.instanceMethod ({ cls := "Burrowline$Session", name := "mayTake", desc := "(I)Z" } : Jvm.MethodName)) ∈ lw_all := lw_g (lw_at lw_m4 90 rfl) rfl
theorem q870 : (Jvm.Cond.code ({ cls := "Burrowline$Session", name := "mayTake", desc := "(I)Z" } : Jvm.MethodName) prog_4_method_2_code (2 : Nat) (Option.some Jvm.ClassFile.FieldType.boolean)) ∈ lw_all := lw_g (lw_at lw_m4 91 rfl) rfl
theorem q872 : (Jvm.Cond.privateMethod ({ cls := "Burrowline$Session", name := "take", desc := "(I)V" } : Jvm.MethodName)) ∈ lw_tbl := lw_at lw_m4 93 rfl
theorem q873 : (Jvm.Cond.instanceMethod ({ cls := "Burrowline$Session", name := "take", desc := "(I)V" } : Jvm.MethodName)) ∈ lw_all := lw_g (lw_at lw_m4 94 rfl) rfl
theorem q874 : (Jvm.Cond.code ({ cls := "Burrowline$Session", name := "take", desc := "(I)V" } : Jvm.MethodName) prog_4_method_3_code (2 : Nat) (Option.none : Option Jvm.ClassFile.FieldType)) ∈ lw_all := lw_g (lw_at lw_m4 95 rfl) rfl
theorem q875 : (Jvm.Cond.methodLink "Burrowline$Session" (41 : Nat) ({ cls := "java/lang/Math", name := "max", desc := "(II)I" } : Jvm.MethodName)) ∈ lw_all := lw_g (lw_at lw_m4 96 rfl) rfl
theorem q1496 : (Jvm.Cond.castable "Burrowline$Session" "java/lang/Object") ∈ lw_tbl := lw_at lw_m6 237 rfl
theorem in_X7 : ∀ w ∈ wsX70, w ∈ lw_all := lw_in wsX70 [821, 823, 825, 827, 829, 831, 833, 835, 837, 839] (by decide +kernel) (by decide +kernel)

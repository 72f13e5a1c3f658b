/-! BurrowlineModel -/
set_option maxRecDepth 100000
def RX4 : String := "BurrowlineModel"
def TX4 : u_T := fun k => match k with
  | 0 => ("BurrowlineModel", "now", "I", false)
  | 1 => ("BurrowlineModel", "count", "I", false)
  | 2 => ("BurrowlineModel", "thrown", "I", false)
  | 3 => ("BurrowlineModel", "delivered", "I", false)
  | 4 => ("BurrowlineModel", "address", "[I", true)
  | 5 => ("BurrowlineModel", "routes", "[I", true)
  | 6 => ("BurrowlineModel", "outs", "[I", true)
  | 7 => ("BurrowlineModel", "codes", "[I", true)
  | 8 => ("BurrowlineModel", "isLoaded", "[Z", true)
  | 9 => ("BurrowlineModel", "route", "[[[I", true)
  | 10 => ("BurrowlineModel", "known", "[[I", true)
  | 11 => ("BurrowlineModel", "taken", "[[I", true)
  | 12 => ("BurrowlineModel", "stamped", "[[I", true)
  | 13 => ("BurrowlineModel", "flight", "[[I", true)
  | 14 => ("BurrowlineModel", "secret", "[[I", true)
  | 15 => ("BurrowlineModel", "tag", "[[I", true)
  | 16 => ("BurrowlineModel", "sentAt", "[[I", true)
  | 17 => ("BurrowlineModel", "cookie", "[[I", true)
  | 18 => ("BurrowlineModel", "cookieAt", "[[I", true)
  | 19 => ("BurrowlineModel", "waits", "[[I", true)
  | 20 => ("BurrowlineModel", "packet", "[[[[I", true)
  | 21 => ("BurrowlineModel", "session", "[[[[I", true)
  | 22 => ("BurrowlineModel", "took", "[[[[Z", true)
  | 23 => ("BurrowlineModel", "letter", "[[I", false)
  | 24 => ("BurrowlineModel", "letters", "I", false)
  | 25 => ("BurrowlineModel", "out", "[[I", false)
  | _ => ("BurrowlineModel", "sum", "J", false)
def tyX4 : Nat → FieldType := fun k => match k with
  | 0 => .int
  | 1 => .int
  | 2 => .int
  | 3 => .int
  | 4 => .array .int
  | 5 => .array .int
  | 6 => .array .int
  | 7 => .array .int
  | 8 => .array .boolean
  | 9 => .array (.array (.array .int))
  | 10 => .array (.array .int)
  | 11 => .array (.array .int)
  | 12 => .array (.array .int)
  | 13 => .array (.array .int)
  | 14 => .array (.array .int)
  | 15 => .array (.array .int)
  | 16 => .array (.array .int)
  | 17 => .array (.array .int)
  | 18 => .array (.array .int)
  | 19 => .array (.array .int)
  | 20 => .array (.array (.array (.array .int)))
  | 21 => .array (.array (.array (.array .int)))
  | 22 => .array (.array (.array (.array .boolean)))
  | 23 => .array (.array .int)
  | 24 => .int
  | 25 => .array (.array .int)
  | _ => .long
abbrev wsX40 : List Cond := u_ws RX4 TX4 27
set_option maxRecDepth 100000 in
theorem nmX4 : ∀ a, a < 27 → ∀ b, b < 27 → a ≠ b → (TX4 a).2.1 ≠ (TX4 b).2.1 := by decide +kernel
set_option maxRecDepth 100000 in
theorem tyX4_ok : ∀ k, k < 27 → parseFieldDescriptor (TX4 k).2.2.1 = some (tyX4 k) := by decide +kernel
abbrev cX4_init : ByteArray := prog_8_method_1_code
def yX4_init : MethodName := ⟨RX4, "<init>", "()V"⟩
def dkwX4_init_12 : List UInt8 := [167, 255, 215, 132, 1, 1, 167, 255, 202, 177]
abbrev dktX4_init_12 : List UInt8 := dkwX4_init_12 ++ []
def dkwX4_init_11 : List UInt8 := [96, 79, 42, 180, 0, 58, 27, 50, 28, 2, 79, 42, 180, 0, 46, 27, 50, 28, 2, 79, 132, 2, 1]
abbrev dktX4_init_11 : List UInt8 := dkwX4_init_11 ++ dktX4_init_12
def dkwX4_init_10 : List UInt8 := [6, 162, 0, 55, 3, 61, 28, 6, 162, 0, 42, 42, 180, 0, 37, 27, 50, 28, 16, 10, 16, 10, 28, 104]
abbrev dktX4_init_10 : List UInt8 := dkwX4_init_10 ++ dktX4_init_11
def dkwX4_init_9 : List UInt8 := [16, 60, 16, 16, 197, 0, 35, 2, 181, 0, 80, 42, 3, 8, 197, 0, 35, 2, 181, 0, 83, 3, 60, 27]
abbrev dktX4_init_9 : List UInt8 := dkwX4_init_9 ++ dktX4_init_10
def dkwX4_init_8 : List UInt8 := [16, 9, 197, 0, 67, 4, 181, 0, 72, 42, 6, 6, 6, 16, 40, 197, 0, 75, 4, 181, 0, 77, 42]
abbrev dktX4_init_8 : List UInt8 := dkwX4_init_8 ++ dktX4_init_9
def dkwX4_init_7 : List UInt8 := [197, 0, 35, 2, 181, 0, 64, 42, 6, 6, 7, 6, 197, 0, 67, 4, 181, 0, 69, 42, 6, 6, 6]
abbrev dktX4_init_7 : List UInt8 := dkwX4_init_7 ++ dktX4_init_8
def dkwX4_init_6 : List UInt8 := [6, 6, 197, 0, 35, 2, 181, 0, 58, 42, 6, 6, 197, 0, 35, 2, 181, 0, 61, 42, 6, 6]
abbrev dktX4_init_6 : List UInt8 := dkwX4_init_6 ++ dktX4_init_7
def dkwX4_init_5 : List UInt8 := [181, 0, 49, 42, 6, 6, 197, 0, 35, 2, 181, 0, 52, 42, 6, 6, 197, 0, 35, 2, 181, 0, 55, 42]
abbrev dktX4_init_5 : List UInt8 := dkwX4_init_5 ++ dktX4_init_6
def dkwX4_init_4 : List UInt8 := [197, 0, 35, 2, 181, 0, 43, 42, 6, 6, 197, 0, 35, 2, 181, 0, 46, 42, 6, 6, 197, 0, 35, 2]
abbrev dktX4_init_4 : List UInt8 := dkwX4_init_4 ++ dktX4_init_5
def dkwX4_init_3 : List UInt8 := [42, 6, 6, 197, 0, 35, 2, 181, 0, 37, 42, 6, 6, 197, 0, 35, 2, 181, 0, 40, 42, 6, 6]
abbrev dktX4_init_3 : List UInt8 := dkwX4_init_3 ++ dktX4_init_4
def dkwX4_init_2 : List UInt8 := [188, 10, 181, 0, 23, 42, 6, 188, 4, 181, 0, 26, 42, 6, 16, 8, 6, 197, 0, 30, 3, 181, 0, 32]
abbrev dktX4_init_2 : List UInt8 := dkwX4_init_2 ++ dktX4_init_3
def dkwX4_init_1 : List UInt8 := [5, 16, 30, 79, 181, 0, 13, 42, 6, 188, 10, 181, 0, 17, 42, 6, 188, 10, 181, 0, 20, 42, 16, 11]
abbrev dktX4_init_1 : List UInt8 := dkwX4_init_1 ++ dktX4_init_2
def dkwX4_init_0 : List UInt8 := [42, 183, 0, 1, 42, 4, 181, 0, 7, 42, 6, 188, 10, 89, 3, 16, 10, 79, 89, 4, 16, 20, 79, 89]
abbrev dktX4_init_0 : List UInt8 := dkwX4_init_0 ++ dktX4_init_1
theorem dksX4_init_0 : cX4_init.data.toList.drop 0 = dktX4_init_0 := by decide +kernel
theorem dksX4_init_1 : cX4_init.data.toList.drop 24 = dktX4_init_1 := dk_seg dksX4_init_0 24 rfl rfl
theorem dksX4_init_2 : cX4_init.data.toList.drop 48 = dktX4_init_2 := dk_seg dksX4_init_1 24 rfl rfl
theorem dksX4_init_3 : cX4_init.data.toList.drop 72 = dktX4_init_3 := dk_seg dksX4_init_2 24 rfl rfl
theorem dksX4_init_4 : cX4_init.data.toList.drop 95 = dktX4_init_4 := dk_seg dksX4_init_3 23 rfl rfl
theorem dksX4_init_5 : cX4_init.data.toList.drop 119 = dktX4_init_5 := dk_seg dksX4_init_4 24 rfl rfl
theorem dksX4_init_6 : cX4_init.data.toList.drop 143 = dktX4_init_6 := dk_seg dksX4_init_5 24 rfl rfl
theorem dksX4_init_7 : cX4_init.data.toList.drop 165 = dktX4_init_7 := dk_seg dksX4_init_6 22 rfl rfl
theorem dksX4_init_8 : cX4_init.data.toList.drop 188 = dktX4_init_8 := dk_seg dksX4_init_7 23 rfl rfl
theorem dksX4_init_9 : cX4_init.data.toList.drop 211 = dktX4_init_9 := dk_seg dksX4_init_8 23 rfl rfl
theorem dksX4_init_10 : cX4_init.data.toList.drop 235 = dktX4_init_10 := dk_seg dksX4_init_9 24 rfl rfl
theorem dksX4_init_11 : cX4_init.data.toList.drop 259 = dktX4_init_11 := dk_seg dksX4_init_10 24 rfl rfl
theorem dksX4_init_12 : cX4_init.data.toList.drop 282 = dktX4_init_12 := dk_seg dksX4_init_11 23 rfl rfl
theorem dX4_init_0 : decode cX4_init 0 = .ok (.aload_n 0, 1) := dk_42 (dk_at dksX4_init_0 0 rfl rfl)
theorem dX4_init_1 : decode cX4_init 1 = .ok (.invokespecial 1, 3) := dk_183 0 1 (dk_at dksX4_init_0 1 rfl rfl)
theorem dX4_init_4 : decode cX4_init 4 = .ok (.aload_n 0, 1) := dk_42 (dk_at dksX4_init_0 4 rfl rfl)
theorem dX4_init_5 : decode cX4_init 5 = .ok (.iconst 1, 1) := dk_4 (dk_at dksX4_init_0 5 rfl rfl)
theorem dX4_init_6 : decode cX4_init 6 = .ok (.putfield 7, 3) := dk_181 0 7 (dk_at dksX4_init_0 6 rfl rfl)
theorem dX4_init_9 : decode cX4_init 9 = .ok (.aload_n 0, 1) := dk_42 (dk_at dksX4_init_0 9 rfl rfl)
theorem dX4_init_10 : decode cX4_init 10 = .ok (.iconst 3, 1) := dk_6 (dk_at dksX4_init_0 10 rfl rfl)
theorem dX4_init_11 : decode cX4_init 11 = .ok (.newarray .int, 2) := dk_188_10 (dk_at dksX4_init_0 11 rfl rfl)
theorem dX4_init_13 : decode cX4_init 13 = .ok (.dup, 1) := dk_89 (dk_at dksX4_init_0 13 rfl rfl)
theorem dX4_init_14 : decode cX4_init 14 = .ok (.iconst 0, 1) := dk_3 (dk_at dksX4_init_0 14 rfl rfl)
theorem dX4_init_15 : decode cX4_init 15 = .ok (.bipush 10, 2) := dk_16 10 (dk_at dksX4_init_0 15 rfl rfl)
theorem dX4_init_17 : decode cX4_init 17 = .ok (.iastore, 1) := dk_79 (dk_at dksX4_init_0 17 rfl rfl)
theorem dX4_init_18 : decode cX4_init 18 = .ok (.dup, 1) := dk_89 (dk_at dksX4_init_0 18 rfl rfl)
theorem dX4_init_19 : decode cX4_init 19 = .ok (.iconst 1, 1) := dk_4 (dk_at dksX4_init_0 19 rfl rfl)
theorem dX4_init_20 : decode cX4_init 20 = .ok (.bipush 20, 2) := dk_16 20 (dk_at dksX4_init_0 20 rfl rfl)
theorem dX4_init_22 : decode cX4_init 22 = .ok (.iastore, 1) := dk_79 (dk_at dksX4_init_0 22 rfl rfl)
theorem dX4_init_23 : decode cX4_init 23 = .ok (.dup, 1) := dk_89 (dk_at dksX4_init_0 23 rfl rfl)
theorem dX4_init_24 : decode cX4_init 24 = .ok (.iconst 2, 1) := dk_5 (dk_at dksX4_init_1 0 rfl rfl)
theorem dX4_init_25 : decode cX4_init 25 = .ok (.bipush 30, 2) := dk_16 30 (dk_at dksX4_init_1 1 rfl rfl)
theorem dX4_init_27 : decode cX4_init 27 = .ok (.iastore, 1) := dk_79 (dk_at dksX4_init_1 3 rfl rfl)
theorem dX4_init_28 : decode cX4_init 28 = .ok (.putfield 13, 3) := dk_181 0 13 (dk_at dksX4_init_1 4 rfl rfl)
theorem dX4_init_31 : decode cX4_init 31 = .ok (.aload_n 0, 1) := dk_42 (dk_at dksX4_init_1 7 rfl rfl)
theorem dX4_init_32 : decode cX4_init 32 = .ok (.iconst 3, 1) := dk_6 (dk_at dksX4_init_1 8 rfl rfl)
theorem dX4_init_33 : decode cX4_init 33 = .ok (.newarray .int, 2) := dk_188_10 (dk_at dksX4_init_1 9 rfl rfl)
theorem dX4_init_35 : decode cX4_init 35 = .ok (.putfield 17, 3) := dk_181 0 17 (dk_at dksX4_init_1 11 rfl rfl)
theorem dX4_init_38 : decode cX4_init 38 = .ok (.aload_n 0, 1) := dk_42 (dk_at dksX4_init_1 14 rfl rfl)
theorem dX4_init_39 : decode cX4_init 39 = .ok (.iconst 3, 1) := dk_6 (dk_at dksX4_init_1 15 rfl rfl)
theorem dX4_init_40 : decode cX4_init 40 = .ok (.newarray .int, 2) := dk_188_10 (dk_at dksX4_init_1 16 rfl rfl)
theorem dX4_init_42 : decode cX4_init 42 = .ok (.putfield 20, 3) := dk_181 0 20 (dk_at dksX4_init_1 18 rfl rfl)
theorem dX4_init_45 : decode cX4_init 45 = .ok (.aload_n 0, 1) := dk_42 (dk_at dksX4_init_1 21 rfl rfl)
theorem dX4_init_46 : decode cX4_init 46 = .ok (.bipush 11, 2) := dk_16 11 (dk_at dksX4_init_1 22 rfl rfl)
theorem dX4_init_48 : decode cX4_init 48 = .ok (.newarray .int, 2) := dk_188_10 (dk_at dksX4_init_2 0 rfl rfl)
theorem dX4_init_50 : decode cX4_init 50 = .ok (.putfield 23, 3) := dk_181 0 23 (dk_at dksX4_init_2 2 rfl rfl)
theorem dX4_init_53 : decode cX4_init 53 = .ok (.aload_n 0, 1) := dk_42 (dk_at dksX4_init_2 5 rfl rfl)
theorem dX4_init_54 : decode cX4_init 54 = .ok (.iconst 3, 1) := dk_6 (dk_at dksX4_init_2 6 rfl rfl)
theorem dX4_init_55 : decode cX4_init 55 = .ok (.newarray .boolean, 2) := dk_188_4 (dk_at dksX4_init_2 7 rfl rfl)
theorem dX4_init_57 : decode cX4_init 57 = .ok (.putfield 26, 3) := dk_181 0 26 (dk_at dksX4_init_2 9 rfl rfl)
theorem dX4_init_60 : decode cX4_init 60 = .ok (.aload_n 0, 1) := dk_42 (dk_at dksX4_init_2 12 rfl rfl)
theorem dX4_init_61 : decode cX4_init 61 = .ok (.iconst 3, 1) := dk_6 (dk_at dksX4_init_2 13 rfl rfl)
theorem dX4_init_62 : decode cX4_init 62 = .ok (.bipush 8, 2) := dk_16 8 (dk_at dksX4_init_2 14 rfl rfl)
theorem dX4_init_64 : decode cX4_init 64 = .ok (.iconst 3, 1) := dk_6 (dk_at dksX4_init_2 16 rfl rfl)
theorem dX4_init_65 : decode cX4_init 65 = .ok (.multianewarray 30 3, 4) := by decide +kernel
theorem dX4_init_69 : decode cX4_init 69 = .ok (.putfield 32, 3) := dk_181 0 32 (dk_at dksX4_init_2 21 rfl rfl)
theorem dX4_init_72 : decode cX4_init 72 = .ok (.aload_n 0, 1) := dk_42 (dk_at dksX4_init_3 0 rfl rfl)
theorem dX4_init_73 : decode cX4_init 73 = .ok (.iconst 3, 1) := dk_6 (dk_at dksX4_init_3 1 rfl rfl)
theorem dX4_init_74 : decode cX4_init 74 = .ok (.iconst 3, 1) := dk_6 (dk_at dksX4_init_3 2 rfl rfl)
theorem dX4_init_75 : decode cX4_init 75 = .ok (.multianewarray 35 2, 4) := by decide +kernel
theorem dX4_init_79 : decode cX4_init 79 = .ok (.putfield 37, 3) := dk_181 0 37 (dk_at dksX4_init_3 7 rfl rfl)
theorem dX4_init_82 : decode cX4_init 82 = .ok (.aload_n 0, 1) := dk_42 (dk_at dksX4_init_3 10 rfl rfl)
theorem dX4_init_83 : decode cX4_init 83 = .ok (.iconst 3, 1) := dk_6 (dk_at dksX4_init_3 11 rfl rfl)
theorem dX4_init_84 : decode cX4_init 84 = .ok (.iconst 3, 1) := dk_6 (dk_at dksX4_init_3 12 rfl rfl)
theorem dX4_init_85 : decode cX4_init 85 = .ok (.multianewarray 35 2, 4) := by decide +kernel
theorem dX4_init_89 : decode cX4_init 89 = .ok (.putfield 40, 3) := dk_181 0 40 (dk_at dksX4_init_3 17 rfl rfl)
theorem dX4_init_92 : decode cX4_init 92 = .ok (.aload_n 0, 1) := dk_42 (dk_at dksX4_init_3 20 rfl rfl)
theorem dX4_init_93 : decode cX4_init 93 = .ok (.iconst 3, 1) := dk_6 (dk_at dksX4_init_3 21 rfl rfl)
theorem dX4_init_94 : decode cX4_init 94 = .ok (.iconst 3, 1) := dk_6 (dk_at dksX4_init_3 22 rfl rfl)
theorem dX4_init_95 : decode cX4_init 95 = .ok (.multianewarray 35 2, 4) := by decide +kernel
theorem dX4_init_99 : decode cX4_init 99 = .ok (.putfield 43, 3) := dk_181 0 43 (dk_at dksX4_init_4 4 rfl rfl)
theorem dX4_init_102 : decode cX4_init 102 = .ok (.aload_n 0, 1) := dk_42 (dk_at dksX4_init_4 7 rfl rfl)
theorem dX4_init_103 : decode cX4_init 103 = .ok (.iconst 3, 1) := dk_6 (dk_at dksX4_init_4 8 rfl rfl)
theorem dX4_init_104 : decode cX4_init 104 = .ok (.iconst 3, 1) := dk_6 (dk_at dksX4_init_4 9 rfl rfl)
theorem dX4_init_105 : decode cX4_init 105 = .ok (.multianewarray 35 2, 4) := by decide +kernel
theorem dX4_init_109 : decode cX4_init 109 = .ok (.putfield 46, 3) := dk_181 0 46 (dk_at dksX4_init_4 14 rfl rfl)
theorem dX4_init_112 : decode cX4_init 112 = .ok (.aload_n 0, 1) := dk_42 (dk_at dksX4_init_4 17 rfl rfl)
theorem dX4_init_113 : decode cX4_init 113 = .ok (.iconst 3, 1) := dk_6 (dk_at dksX4_init_4 18 rfl rfl)
theorem dX4_init_114 : decode cX4_init 114 = .ok (.iconst 3, 1) := dk_6 (dk_at dksX4_init_4 19 rfl rfl)
theorem dX4_init_115 : decode cX4_init 115 = .ok (.multianewarray 35 2, 4) := by decide +kernel
theorem dX4_init_119 : decode cX4_init 119 = .ok (.putfield 49, 3) := dk_181 0 49 (dk_at dksX4_init_5 0 rfl rfl)
theorem dX4_init_122 : decode cX4_init 122 = .ok (.aload_n 0, 1) := dk_42 (dk_at dksX4_init_5 3 rfl rfl)
theorem dX4_init_123 : decode cX4_init 123 = .ok (.iconst 3, 1) := dk_6 (dk_at dksX4_init_5 4 rfl rfl)
theorem dX4_init_124 : decode cX4_init 124 = .ok (.iconst 3, 1) := dk_6 (dk_at dksX4_init_5 5 rfl rfl)
theorem dX4_init_125 : decode cX4_init 125 = .ok (.multianewarray 35 2, 4) := by decide +kernel
theorem dX4_init_129 : decode cX4_init 129 = .ok (.putfield 52, 3) := dk_181 0 52 (dk_at dksX4_init_5 10 rfl rfl)
theorem dX4_init_132 : decode cX4_init 132 = .ok (.aload_n 0, 1) := dk_42 (dk_at dksX4_init_5 13 rfl rfl)
theorem dX4_init_133 : decode cX4_init 133 = .ok (.iconst 3, 1) := dk_6 (dk_at dksX4_init_5 14 rfl rfl)
theorem dX4_init_134 : decode cX4_init 134 = .ok (.iconst 3, 1) := dk_6 (dk_at dksX4_init_5 15 rfl rfl)
theorem dX4_init_135 : decode cX4_init 135 = .ok (.multianewarray 35 2, 4) := by decide +kernel
theorem dX4_init_139 : decode cX4_init 139 = .ok (.putfield 55, 3) := dk_181 0 55 (dk_at dksX4_init_5 20 rfl rfl)
theorem dX4_init_142 : decode cX4_init 142 = .ok (.aload_n 0, 1) := dk_42 (dk_at dksX4_init_5 23 rfl rfl)
theorem dX4_init_143 : decode cX4_init 143 = .ok (.iconst 3, 1) := dk_6 (dk_at dksX4_init_6 0 rfl rfl)
theorem dX4_init_144 : decode cX4_init 144 = .ok (.iconst 3, 1) := dk_6 (dk_at dksX4_init_6 1 rfl rfl)
theorem dX4_init_145 : decode cX4_init 145 = .ok (.multianewarray 35 2, 4) := by decide +kernel
theorem dX4_init_149 : decode cX4_init 149 = .ok (.putfield 58, 3) := dk_181 0 58 (dk_at dksX4_init_6 6 rfl rfl)
theorem dX4_init_152 : decode cX4_init 152 = .ok (.aload_n 0, 1) := dk_42 (dk_at dksX4_init_6 9 rfl rfl)
theorem dX4_init_153 : decode cX4_init 153 = .ok (.iconst 3, 1) := dk_6 (dk_at dksX4_init_6 10 rfl rfl)
theorem dX4_init_154 : decode cX4_init 154 = .ok (.iconst 3, 1) := dk_6 (dk_at dksX4_init_6 11 rfl rfl)
theorem dX4_init_155 : decode cX4_init 155 = .ok (.multianewarray 35 2, 4) := by decide +kernel
theorem dX4_init_159 : decode cX4_init 159 = .ok (.putfield 61, 3) := dk_181 0 61 (dk_at dksX4_init_6 16 rfl rfl)
theorem dX4_init_162 : decode cX4_init 162 = .ok (.aload_n 0, 1) := dk_42 (dk_at dksX4_init_6 19 rfl rfl)
theorem dX4_init_163 : decode cX4_init 163 = .ok (.iconst 3, 1) := dk_6 (dk_at dksX4_init_6 20 rfl rfl)
theorem dX4_init_164 : decode cX4_init 164 = .ok (.iconst 3, 1) := dk_6 (dk_at dksX4_init_6 21 rfl rfl)
theorem dX4_init_165 : decode cX4_init 165 = .ok (.multianewarray 35 2, 4) := by decide +kernel
theorem dX4_init_169 : decode cX4_init 169 = .ok (.putfield 64, 3) := dk_181 0 64 (dk_at dksX4_init_7 4 rfl rfl)
theorem dX4_init_172 : decode cX4_init 172 = .ok (.aload_n 0, 1) := dk_42 (dk_at dksX4_init_7 7 rfl rfl)
theorem dX4_init_173 : decode cX4_init 173 = .ok (.iconst 3, 1) := dk_6 (dk_at dksX4_init_7 8 rfl rfl)
theorem dX4_init_174 : decode cX4_init 174 = .ok (.iconst 3, 1) := dk_6 (dk_at dksX4_init_7 9 rfl rfl)
theorem dX4_init_175 : decode cX4_init 175 = .ok (.iconst 4, 1) := dk_7 (dk_at dksX4_init_7 10 rfl rfl)
theorem dX4_init_176 : decode cX4_init 176 = .ok (.iconst 3, 1) := dk_6 (dk_at dksX4_init_7 11 rfl rfl)
theorem dX4_init_177 : decode cX4_init 177 = .ok (.multianewarray 67 4, 4) := by decide +kernel
theorem dX4_init_181 : decode cX4_init 181 = .ok (.putfield 69, 3) := dk_181 0 69 (dk_at dksX4_init_7 16 rfl rfl)
theorem dX4_init_184 : decode cX4_init 184 = .ok (.aload_n 0, 1) := dk_42 (dk_at dksX4_init_7 19 rfl rfl)
theorem dX4_init_185 : decode cX4_init 185 = .ok (.iconst 3, 1) := dk_6 (dk_at dksX4_init_7 20 rfl rfl)
theorem dX4_init_186 : decode cX4_init 186 = .ok (.iconst 3, 1) := dk_6 (dk_at dksX4_init_7 21 rfl rfl)
theorem dX4_init_187 : decode cX4_init 187 = .ok (.iconst 3, 1) := dk_6 (dk_at dksX4_init_7 22 rfl rfl)
theorem dX4_init_188 : decode cX4_init 188 = .ok (.bipush 9, 2) := dk_16 9 (dk_at dksX4_init_8 0 rfl rfl)
theorem dX4_init_190 : decode cX4_init 190 = .ok (.multianewarray 67 4, 4) := by decide +kernel
theorem dX4_init_194 : decode cX4_init 194 = .ok (.putfield 72, 3) := dk_181 0 72 (dk_at dksX4_init_8 6 rfl rfl)
theorem dX4_init_197 : decode cX4_init 197 = .ok (.aload_n 0, 1) := dk_42 (dk_at dksX4_init_8 9 rfl rfl)
theorem dX4_init_198 : decode cX4_init 198 = .ok (.iconst 3, 1) := dk_6 (dk_at dksX4_init_8 10 rfl rfl)
theorem dX4_init_199 : decode cX4_init 199 = .ok (.iconst 3, 1) := dk_6 (dk_at dksX4_init_8 11 rfl rfl)
theorem dX4_init_200 : decode cX4_init 200 = .ok (.iconst 3, 1) := dk_6 (dk_at dksX4_init_8 12 rfl rfl)
theorem dX4_init_201 : decode cX4_init 201 = .ok (.bipush 40, 2) := dk_16 40 (dk_at dksX4_init_8 13 rfl rfl)
theorem dX4_init_203 : decode cX4_init 203 = .ok (.multianewarray 75 4, 4) := by decide +kernel
theorem dX4_init_207 : decode cX4_init 207 = .ok (.putfield 77, 3) := dk_181 0 77 (dk_at dksX4_init_8 19 rfl rfl)
theorem dX4_init_210 : decode cX4_init 210 = .ok (.aload_n 0, 1) := dk_42 (dk_at dksX4_init_8 22 rfl rfl)
theorem dX4_init_211 : decode cX4_init 211 = .ok (.bipush 60, 2) := dk_16 60 (dk_at dksX4_init_9 0 rfl rfl)
theorem dX4_init_213 : decode cX4_init 213 = .ok (.bipush 16, 2) := dk_16 16 (dk_at dksX4_init_9 2 rfl rfl)
theorem dX4_init_215 : decode cX4_init 215 = .ok (.multianewarray 35 2, 4) := by decide +kernel
theorem dX4_init_219 : decode cX4_init 219 = .ok (.putfield 80, 3) := dk_181 0 80 (dk_at dksX4_init_9 8 rfl rfl)
theorem dX4_init_222 : decode cX4_init 222 = .ok (.aload_n 0, 1) := dk_42 (dk_at dksX4_init_9 11 rfl rfl)
theorem dX4_init_223 : decode cX4_init 223 = .ok (.iconst 0, 1) := dk_3 (dk_at dksX4_init_9 12 rfl rfl)
theorem dX4_init_224 : decode cX4_init 224 = .ok (.iconst 5, 1) := dk_8 (dk_at dksX4_init_9 13 rfl rfl)
theorem dX4_init_225 : decode cX4_init 225 = .ok (.multianewarray 35 2, 4) := by decide +kernel
theorem dX4_init_229 : decode cX4_init 229 = .ok (.putfield 83, 3) := dk_181 0 83 (dk_at dksX4_init_9 18 rfl rfl)
theorem dX4_init_232 : decode cX4_init 232 = .ok (.iconst 0, 1) := dk_3 (dk_at dksX4_init_9 21 rfl rfl)
theorem dX4_init_233 : decode cX4_init 233 = .ok (.istore_n 1, 1) := dk_60 (dk_at dksX4_init_9 22 rfl rfl)
theorem dX4_init_234 : decode cX4_init 234 = .ok (.iload_n 1, 1) := dk_27 (dk_at dksX4_init_9 23 rfl rfl)
theorem dX4_init_235 : decode cX4_init 235 = .ok (.iconst 3, 1) := dk_6 (dk_at dksX4_init_10 0 rfl rfl)
theorem dX4_init_236 : decode cX4_init 236 = .ok (.if_icmp .ge 55, 3) := dk_162 0 55 (dk_at dksX4_init_10 1 rfl rfl)
theorem dX4_init_239 : decode cX4_init 239 = .ok (.iconst 0, 1) := dk_3 (dk_at dksX4_init_10 4 rfl rfl)
theorem dX4_init_240 : decode cX4_init 240 = .ok (.istore_n 2, 1) := dk_61 (dk_at dksX4_init_10 5 rfl rfl)
theorem dX4_init_241 : decode cX4_init 241 = .ok (.iload_n 2, 1) := dk_28 (dk_at dksX4_init_10 6 rfl rfl)
theorem dX4_init_242 : decode cX4_init 242 = .ok (.iconst 3, 1) := dk_6 (dk_at dksX4_init_10 7 rfl rfl)
theorem dX4_init_243 : decode cX4_init 243 = .ok (.if_icmp .ge 42, 3) := dk_162 0 42 (dk_at dksX4_init_10 8 rfl rfl)
theorem dX4_init_246 : decode cX4_init 246 = .ok (.aload_n 0, 1) := dk_42 (dk_at dksX4_init_10 11 rfl rfl)
theorem dX4_init_247 : decode cX4_init 247 = .ok (.getfield 37, 3) := dk_180 0 37 (dk_at dksX4_init_10 12 rfl rfl)
theorem dX4_init_250 : decode cX4_init 250 = .ok (.iload_n 1, 1) := dk_27 (dk_at dksX4_init_10 15 rfl rfl)
theorem dX4_init_251 : decode cX4_init 251 = .ok (.aaload, 1) := dk_50 (dk_at dksX4_init_10 16 rfl rfl)
theorem dX4_init_252 : decode cX4_init 252 = .ok (.iload_n 2, 1) := dk_28 (dk_at dksX4_init_10 17 rfl rfl)
theorem dX4_init_253 : decode cX4_init 253 = .ok (.bipush 10, 2) := dk_16 10 (dk_at dksX4_init_10 18 rfl rfl)
theorem dX4_init_255 : decode cX4_init 255 = .ok (.bipush 10, 2) := dk_16 10 (dk_at dksX4_init_10 20 rfl rfl)
theorem dX4_init_257 : decode cX4_init 257 = .ok (.iload_n 2, 1) := dk_28 (dk_at dksX4_init_10 22 rfl rfl)
theorem dX4_init_258 : decode cX4_init 258 = .ok (.imul, 1) := dk_104 (dk_at dksX4_init_10 23 rfl rfl)
theorem dX4_init_259 : decode cX4_init 259 = .ok (.iadd, 1) := dk_96 (dk_at dksX4_init_11 0 rfl rfl)
theorem dX4_init_260 : decode cX4_init 260 = .ok (.iastore, 1) := dk_79 (dk_at dksX4_init_11 1 rfl rfl)
theorem dX4_init_261 : decode cX4_init 261 = .ok (.aload_n 0, 1) := dk_42 (dk_at dksX4_init_11 2 rfl rfl)
theorem dX4_init_262 : decode cX4_init 262 = .ok (.getfield 58, 3) := dk_180 0 58 (dk_at dksX4_init_11 3 rfl rfl)
theorem dX4_init_265 : decode cX4_init 265 = .ok (.iload_n 1, 1) := dk_27 (dk_at dksX4_init_11 6 rfl rfl)
theorem dX4_init_266 : decode cX4_init 266 = .ok (.aaload, 1) := dk_50 (dk_at dksX4_init_11 7 rfl rfl)
theorem dX4_init_267 : decode cX4_init 267 = .ok (.iload_n 2, 1) := dk_28 (dk_at dksX4_init_11 8 rfl rfl)
theorem dX4_init_268 : decode cX4_init 268 = .ok (.iconst (-1), 1) := dk_2 (dk_at dksX4_init_11 9 rfl rfl)
theorem dX4_init_269 : decode cX4_init 269 = .ok (.iastore, 1) := dk_79 (dk_at dksX4_init_11 10 rfl rfl)
theorem dX4_init_270 : decode cX4_init 270 = .ok (.aload_n 0, 1) := dk_42 (dk_at dksX4_init_11 11 rfl rfl)
theorem dX4_init_271 : decode cX4_init 271 = .ok (.getfield 46, 3) := dk_180 0 46 (dk_at dksX4_init_11 12 rfl rfl)
theorem dX4_init_274 : decode cX4_init 274 = .ok (.iload_n 1, 1) := dk_27 (dk_at dksX4_init_11 15 rfl rfl)
theorem dX4_init_275 : decode cX4_init 275 = .ok (.aaload, 1) := dk_50 (dk_at dksX4_init_11 16 rfl rfl)
theorem dX4_init_276 : decode cX4_init 276 = .ok (.iload_n 2, 1) := dk_28 (dk_at dksX4_init_11 17 rfl rfl)
theorem dX4_init_277 : decode cX4_init 277 = .ok (.iconst (-1), 1) := dk_2 (dk_at dksX4_init_11 18 rfl rfl)
theorem dX4_init_278 : decode cX4_init 278 = .ok (.iastore, 1) := dk_79 (dk_at dksX4_init_11 19 rfl rfl)
theorem dX4_init_279 : decode cX4_init 279 = .ok (.iinc 2 1, 3) := dk_132 2 1 (dk_at dksX4_init_11 20 rfl rfl)
theorem dX4_init_282 : decode cX4_init 282 = .ok (.goto (-41), 3) := dk_167 255 215 (dk_at dksX4_init_12 0 rfl rfl)
theorem dX4_init_285 : decode cX4_init 285 = .ok (.iinc 1 1, 3) := dk_132 1 1 (dk_at dksX4_init_12 3 rfl rfl)
theorem dX4_init_288 : decode cX4_init 288 = .ok (.goto (-54), 3) := dk_167 255 202 (dk_at dksX4_init_12 6 rfl rfl)
theorem dX4_init_291 : decode cX4_init 291 = .ok (.return_, 1) := dk_177 (dk_at dksX4_init_12 9 rfl rfl)
abbrev cX4_thrown : ByteArray := prog_8_method_2_code
def yX4_thrown : MethodName := ⟨RX4, "thrown", "()I"⟩
theorem dX4_thrown_0 : decode cX4_thrown 0 = .ok (.aload_n 0, 1) := by decide +kernel
theorem dX4_thrown_1 : decode cX4_thrown 1 = .ok (.getfield 86, 3) := by decide +kernel
theorem dX4_thrown_4 : decode cX4_thrown 4 = .ok (.ireturn, 1) := by decide +kernel
abbrev cX4_pass : ByteArray := prog_8_method_38_code
def yX4_pass : MethodName := ⟨RX4, "pass", "(I)I"⟩
def dkwX4_pass_2 : List UInt8 := [96, 181, 0, 129, 42, 180, 0, 129, 172]
abbrev dktX4_pass_2 : List UInt8 := dkwX4_pass_2 ++ []
def dkwX4_pass_1 : List UInt8 := [18, 214, 164, 0, 7, 5, 167, 0, 4, 3, 182, 0, 215, 153, 0, 5, 3, 172, 42, 89, 180, 0, 129, 27]
abbrev dktX4_pass_1 : List UInt8 := dkwX4_pass_1 ++ dktX4_pass_2
def dkwX4_pass_0 : List UInt8 := [42, 27, 133, 10, 20, 0, 212, 184, 0, 91, 154, 0, 7, 4, 167, 0, 19, 42, 180, 0, 129, 27, 96]
abbrev dktX4_pass_0 : List UInt8 := dkwX4_pass_0 ++ dktX4_pass_1
theorem dksX4_pass_0 : cX4_pass.data.toList.drop 0 = dktX4_pass_0 := by decide +kernel
theorem dksX4_pass_1 : cX4_pass.data.toList.drop 23 = dktX4_pass_1 := dk_seg dksX4_pass_0 23 rfl rfl
theorem dksX4_pass_2 : cX4_pass.data.toList.drop 47 = dktX4_pass_2 := dk_seg dksX4_pass_1 24 rfl rfl
theorem dX4_pass_0 : decode cX4_pass 0 = .ok (.aload_n 0, 1) := dk_42 (dk_at dksX4_pass_0 0 rfl rfl)
theorem dX4_pass_1 : decode cX4_pass 1 = .ok (.iload_n 1, 1) := dk_27 (dk_at dksX4_pass_0 1 rfl rfl)
theorem dX4_pass_2 : decode cX4_pass 2 = .ok (.i2l, 1) := dk_133 (dk_at dksX4_pass_0 2 rfl rfl)
theorem dX4_pass_3 : decode cX4_pass 3 = .ok (.lconst 1, 1) := dk_10 (dk_at dksX4_pass_0 3 rfl rfl)
theorem dX4_pass_4 : decode cX4_pass 4 = .ok (.ldc2_w 212, 3) := dk_20 0 212 (dk_at dksX4_pass_0 4 rfl rfl)
theorem dX4_pass_7 : decode cX4_pass 7 = .ok (.invokestatic 91, 3) := dk_184 0 91 (dk_at dksX4_pass_0 7 rfl rfl)
theorem dX4_pass_10 : decode cX4_pass 10 = .ok (.ifCond .ne 7, 3) := dk_154 0 7 (dk_at dksX4_pass_0 10 rfl rfl)
theorem dX4_pass_13 : decode cX4_pass 13 = .ok (.iconst 1, 1) := dk_4 (dk_at dksX4_pass_0 13 rfl rfl)
theorem dX4_pass_14 : decode cX4_pass 14 = .ok (.goto 19, 3) := dk_167 0 19 (dk_at dksX4_pass_0 14 rfl rfl)
theorem dX4_pass_17 : decode cX4_pass 17 = .ok (.aload_n 0, 1) := dk_42 (dk_at dksX4_pass_0 17 rfl rfl)
theorem dX4_pass_18 : decode cX4_pass 18 = .ok (.getfield 129, 3) := dk_180 0 129 (dk_at dksX4_pass_0 18 rfl rfl)
theorem dX4_pass_21 : decode cX4_pass 21 = .ok (.iload_n 1, 1) := dk_27 (dk_at dksX4_pass_0 21 rfl rfl)
theorem dX4_pass_22 : decode cX4_pass 22 = .ok (.iadd, 1) := dk_96 (dk_at dksX4_pass_0 22 rfl rfl)
theorem dX4_pass_23 : decode cX4_pass 23 = .ok (.ldc 214, 2) := dk_18 214 (dk_at dksX4_pass_1 0 rfl rfl)
theorem dX4_pass_25 : decode cX4_pass 25 = .ok (.if_icmp .le 7, 3) := dk_164 0 7 (dk_at dksX4_pass_1 2 rfl rfl)
theorem dX4_pass_28 : decode cX4_pass 28 = .ok (.iconst 2, 1) := dk_5 (dk_at dksX4_pass_1 5 rfl rfl)
theorem dX4_pass_29 : decode cX4_pass 29 = .ok (.goto 4, 3) := dk_167 0 4 (dk_at dksX4_pass_1 6 rfl rfl)
theorem dX4_pass_32 : decode cX4_pass 32 = .ok (.iconst 0, 1) := dk_3 (dk_at dksX4_pass_1 9 rfl rfl)
theorem dX4_pass_33 : decode cX4_pass 33 = .ok (.invokevirtual 215, 3) := dk_182 0 215 (dk_at dksX4_pass_1 10 rfl rfl)
theorem dX4_pass_36 : decode cX4_pass 36 = .ok (.ifCond .eq 5, 3) := dk_153 0 5 (dk_at dksX4_pass_1 13 rfl rfl)
theorem dX4_pass_39 : decode cX4_pass 39 = .ok (.iconst 0, 1) := dk_3 (dk_at dksX4_pass_1 16 rfl rfl)
theorem dX4_pass_40 : decode cX4_pass 40 = .ok (.ireturn, 1) := dk_172 (dk_at dksX4_pass_1 17 rfl rfl)
theorem dX4_pass_41 : decode cX4_pass 41 = .ok (.aload_n 0, 1) := dk_42 (dk_at dksX4_pass_1 18 rfl rfl)
theorem dX4_pass_42 : decode cX4_pass 42 = .ok (.dup, 1) := dk_89 (dk_at dksX4_pass_1 19 rfl rfl)
theorem dX4_pass_43 : decode cX4_pass 43 = .ok (.getfield 129, 3) := dk_180 0 129 (dk_at dksX4_pass_1 20 rfl rfl)
theorem dX4_pass_46 : decode cX4_pass 46 = .ok (.iload_n 1, 1) := dk_27 (dk_at dksX4_pass_1 23 rfl rfl)
theorem dX4_pass_47 : decode cX4_pass 47 = .ok (.iadd, 1) := dk_96 (dk_at dksX4_pass_2 0 rfl rfl)
theorem dX4_pass_48 : decode cX4_pass 48 = .ok (.putfield 129, 3) := dk_181 0 129 (dk_at dksX4_pass_2 1 rfl rfl)
theorem dX4_pass_51 : decode cX4_pass 51 = .ok (.aload_n 0, 1) := dk_42 (dk_at dksX4_pass_2 4 rfl rfl)
theorem dX4_pass_52 : decode cX4_pass 52 = .ok (.getfield 129, 3) := dk_180 0 129 (dk_at dksX4_pass_2 5 rfl rfl)
theorem dX4_pass_55 : decode cX4_pass 55 = .ok (.ireturn, 1) := dk_172 (dk_at dksX4_pass_2 8 rfl rfl)
abbrev cX4_isBetween : ByteArray := prog_8_method_4_code
def yX4_isBetween : MethodName := ⟨RX4, "isBetween", "(JJJ)Z"⟩
def dkwX4_isBetween_0 : List UInt8 := [30, 32, 148, 155, 0, 14, 30, 22, 4, 148, 157, 0, 7, 4, 167, 0, 4, 3, 172]
abbrev dktX4_isBetween_0 : List UInt8 := dkwX4_isBetween_0 ++ []
theorem dksX4_isBetween_0 : cX4_isBetween.data.toList.drop 0 = dktX4_isBetween_0 := by decide +kernel
theorem dX4_isBetween_0 : decode cX4_isBetween 0 = .ok (.lload_n 0, 1) := dk_30 (dk_at dksX4_isBetween_0 0 rfl rfl)
theorem dX4_isBetween_1 : decode cX4_isBetween 1 = .ok (.lload_n 2, 1) := dk_32 (dk_at dksX4_isBetween_0 1 rfl rfl)
theorem dX4_isBetween_2 : decode cX4_isBetween 2 = .ok (.lcmp, 1) := dk_148 (dk_at dksX4_isBetween_0 2 rfl rfl)
theorem dX4_isBetween_3 : decode cX4_isBetween 3 = .ok (.ifCond .lt 14, 3) := dk_155 0 14 (dk_at dksX4_isBetween_0 3 rfl rfl)
theorem dX4_isBetween_6 : decode cX4_isBetween 6 = .ok (.lload_n 0, 1) := dk_30 (dk_at dksX4_isBetween_0 6 rfl rfl)
theorem dX4_isBetween_7 : decode cX4_isBetween 7 = .ok (.lload 4, 2) := dk_22 4 (dk_at dksX4_isBetween_0 7 rfl rfl)
theorem dX4_isBetween_9 : decode cX4_isBetween 9 = .ok (.lcmp, 1) := dk_148 (dk_at dksX4_isBetween_0 9 rfl rfl)
theorem dX4_isBetween_10 : decode cX4_isBetween 10 = .ok (.ifCond .gt 7, 3) := dk_157 0 7 (dk_at dksX4_isBetween_0 10 rfl rfl)
theorem dX4_isBetween_13 : decode cX4_isBetween 13 = .ok (.iconst 1, 1) := dk_4 (dk_at dksX4_isBetween_0 13 rfl rfl)
theorem dX4_isBetween_14 : decode cX4_isBetween 14 = .ok (.goto 4, 3) := dk_167 0 4 (dk_at dksX4_isBetween_0 14 rfl rfl)
theorem dX4_isBetween_17 : decode cX4_isBetween 17 = .ok (.iconst 0, 1) := dk_3 (dk_at dksX4_isBetween_0 17 rfl rfl)
theorem dX4_isBetween_18 : decode cX4_isBetween 18 = .ok (.ireturn, 1) := dk_172 (dk_at dksX4_isBetween_0 18 rfl rfl)
abbrev cX4_isWrong : ByteArray := prog_8_method_3_code
def yX4_isWrong : MethodName := ⟨RX4, "isWrong", "(I)Z"⟩
def dkwX4_isWrong_0 : List UInt8 := [42, 27, 181, 0, 86, 27, 153, 0, 7, 4, 167, 0, 4, 3, 172]
abbrev dktX4_isWrong_0 : List UInt8 := dkwX4_isWrong_0 ++ []
theorem dksX4_isWrong_0 : cX4_isWrong.data.toList.drop 0 = dktX4_isWrong_0 := by decide +kernel
theorem dX4_isWrong_0 : decode cX4_isWrong 0 = .ok (.aload_n 0, 1) := dk_42 (dk_at dksX4_isWrong_0 0 rfl rfl)
theorem dX4_isWrong_1 : decode cX4_isWrong 1 = .ok (.iload_n 1, 1) := dk_27 (dk_at dksX4_isWrong_0 1 rfl rfl)
theorem dX4_isWrong_2 : decode cX4_isWrong 2 = .ok (.putfield 86, 3) := dk_181 0 86 (dk_at dksX4_isWrong_0 2 rfl rfl)
theorem dX4_isWrong_5 : decode cX4_isWrong 5 = .ok (.iload_n 1, 1) := dk_27 (dk_at dksX4_isWrong_0 5 rfl rfl)
theorem dX4_isWrong_6 : decode cX4_isWrong 6 = .ok (.ifCond .eq 7, 3) := dk_153 0 7 (dk_at dksX4_isWrong_0 6 rfl rfl)
theorem dX4_isWrong_9 : decode cX4_isWrong 9 = .ok (.iconst 1, 1) := dk_4 (dk_at dksX4_isWrong_0 9 rfl rfl)
theorem dX4_isWrong_10 : decode cX4_isWrong 10 = .ok (.goto 4, 3) := dk_167 0 4 (dk_at dksX4_isWrong_0 10 rfl rfl)
theorem dX4_isWrong_13 : decode cX4_isWrong 13 = .ok (.iconst 0, 1) := dk_3 (dk_at dksX4_isWrong_0 13 rfl rfl)
theorem dX4_isWrong_14 : decode cX4_isWrong 14 = .ok (.ireturn, 1) := dk_172 (dk_at dksX4_isWrong_0 14 rfl rfl)
abbrev cX4_move : ByteArray := prog_8_method_39_code
def yX4_move : MethodName := ⟨RX4, "move", "(II)I"⟩
def dkwX4_move_4 : List UInt8 := [21, 4, 172]
abbrev dktX4_move_4 : List UInt8 := dkwX4_move_4 ++ []
def dkwX4_move_3 : List UInt8 := [182, 0, 215, 153, 0, 5, 3, 172, 42, 180, 0, 13, 27, 46, 54, 4, 42, 180, 0, 13, 27, 28, 79]
abbrev dktX4_move_3 : List UInt8 := dkwX4_move_3 ++ dktX4_move_4
def dkwX4_move_2 : List UInt8 := [167, 255, 222, 42, 27, 184, 0, 98, 154, 0, 7, 4, 167, 0, 12, 29, 154, 0, 7, 5, 167, 0, 4, 3]
abbrev dktX4_move_2 : List UInt8 := dkwX4_move_2 ++ dktX4_move_3
def dkwX4_move_1 : List UInt8 := [159, 0, 14, 42, 180, 0, 13, 21, 4, 46, 28, 159, 0, 7, 4, 167, 0, 4, 3, 126, 62, 132, 4, 1]
abbrev dktX4_move_1 : List UInt8 := dkwX4_move_1 ++ dktX4_move_2
def dkwX4_move_0 : List UInt8 := [28, 133, 10, 20, 0, 218, 184, 0, 91, 62, 3, 54, 4, 21, 4, 6, 162, 0, 34, 29, 21, 4, 27]
abbrev dktX4_move_0 : List UInt8 := dkwX4_move_0 ++ dktX4_move_1
theorem dksX4_move_0 : cX4_move.data.toList.drop 0 = dktX4_move_0 := by decide +kernel
theorem dksX4_move_1 : cX4_move.data.toList.drop 23 = dktX4_move_1 := dk_seg dksX4_move_0 23 rfl rfl
theorem dksX4_move_2 : cX4_move.data.toList.drop 47 = dktX4_move_2 := dk_seg dksX4_move_1 24 rfl rfl
theorem dksX4_move_3 : cX4_move.data.toList.drop 71 = dktX4_move_3 := dk_seg dksX4_move_2 24 rfl rfl
theorem dksX4_move_4 : cX4_move.data.toList.drop 94 = dktX4_move_4 := dk_seg dksX4_move_3 23 rfl rfl
theorem dX4_move_0 : decode cX4_move 0 = .ok (.iload_n 2, 1) := dk_28 (dk_at dksX4_move_0 0 rfl rfl)
theorem dX4_move_1 : decode cX4_move 1 = .ok (.i2l, 1) := dk_133 (dk_at dksX4_move_0 1 rfl rfl)
theorem dX4_move_2 : decode cX4_move 2 = .ok (.lconst 1, 1) := dk_10 (dk_at dksX4_move_0 2 rfl rfl)
theorem dX4_move_3 : decode cX4_move 3 = .ok (.ldc2_w 218, 3) := dk_20 0 218 (dk_at dksX4_move_0 3 rfl rfl)
theorem dX4_move_6 : decode cX4_move 6 = .ok (.invokestatic 91, 3) := dk_184 0 91 (dk_at dksX4_move_0 6 rfl rfl)
theorem dX4_move_9 : decode cX4_move 9 = .ok (.istore_n 3, 1) := dk_62 (dk_at dksX4_move_0 9 rfl rfl)
theorem dX4_move_10 : decode cX4_move 10 = .ok (.iconst 0, 1) := dk_3 (dk_at dksX4_move_0 10 rfl rfl)
theorem dX4_move_11 : decode cX4_move 11 = .ok (.istore 4, 2) := dk_54 4 (dk_at dksX4_move_0 11 rfl rfl)
theorem dX4_move_13 : decode cX4_move 13 = .ok (.iload 4, 2) := dk_21 4 (dk_at dksX4_move_0 13 rfl rfl)
theorem dX4_move_15 : decode cX4_move 15 = .ok (.iconst 3, 1) := dk_6 (dk_at dksX4_move_0 15 rfl rfl)
theorem dX4_move_16 : decode cX4_move 16 = .ok (.if_icmp .ge 34, 3) := dk_162 0 34 (dk_at dksX4_move_0 16 rfl rfl)
theorem dX4_move_19 : decode cX4_move 19 = .ok (.iload_n 3, 1) := dk_29 (dk_at dksX4_move_0 19 rfl rfl)
theorem dX4_move_20 : decode cX4_move 20 = .ok (.iload 4, 2) := dk_21 4 (dk_at dksX4_move_0 20 rfl rfl)
theorem dX4_move_22 : decode cX4_move 22 = .ok (.iload_n 1, 1) := dk_27 (dk_at dksX4_move_0 22 rfl rfl)
theorem dX4_move_23 : decode cX4_move 23 = .ok (.if_icmp .eq 14, 3) := dk_159 0 14 (dk_at dksX4_move_1 0 rfl rfl)
theorem dX4_move_26 : decode cX4_move 26 = .ok (.aload_n 0, 1) := dk_42 (dk_at dksX4_move_1 3 rfl rfl)
theorem dX4_move_27 : decode cX4_move 27 = .ok (.getfield 13, 3) := dk_180 0 13 (dk_at dksX4_move_1 4 rfl rfl)
theorem dX4_move_30 : decode cX4_move 30 = .ok (.iload 4, 2) := dk_21 4 (dk_at dksX4_move_1 7 rfl rfl)
theorem dX4_move_32 : decode cX4_move 32 = .ok (.iaload, 1) := dk_46 (dk_at dksX4_move_1 9 rfl rfl)
theorem dX4_move_33 : decode cX4_move 33 = .ok (.iload_n 2, 1) := dk_28 (dk_at dksX4_move_1 10 rfl rfl)
theorem dX4_move_34 : decode cX4_move 34 = .ok (.if_icmp .eq 7, 3) := dk_159 0 7 (dk_at dksX4_move_1 11 rfl rfl)
theorem dX4_move_37 : decode cX4_move 37 = .ok (.iconst 1, 1) := dk_4 (dk_at dksX4_move_1 14 rfl rfl)
theorem dX4_move_38 : decode cX4_move 38 = .ok (.goto 4, 3) := dk_167 0 4 (dk_at dksX4_move_1 15 rfl rfl)
theorem dX4_move_41 : decode cX4_move 41 = .ok (.iconst 0, 1) := dk_3 (dk_at dksX4_move_1 18 rfl rfl)
theorem dX4_move_42 : decode cX4_move 42 = .ok (.iand, 1) := dk_126 (dk_at dksX4_move_1 19 rfl rfl)
theorem dX4_move_43 : decode cX4_move 43 = .ok (.istore_n 3, 1) := dk_62 (dk_at dksX4_move_1 20 rfl rfl)
theorem dX4_move_44 : decode cX4_move 44 = .ok (.iinc 4 1, 3) := dk_132 4 1 (dk_at dksX4_move_1 21 rfl rfl)
theorem dX4_move_47 : decode cX4_move 47 = .ok (.goto (-34), 3) := dk_167 255 222 (dk_at dksX4_move_2 0 rfl rfl)
theorem dX4_move_50 : decode cX4_move 50 = .ok (.aload_n 0, 1) := dk_42 (dk_at dksX4_move_2 3 rfl rfl)
theorem dX4_move_51 : decode cX4_move 51 = .ok (.iload_n 1, 1) := dk_27 (dk_at dksX4_move_2 4 rfl rfl)
theorem dX4_move_52 : decode cX4_move 52 = .ok (.invokestatic 98, 3) := dk_184 0 98 (dk_at dksX4_move_2 5 rfl rfl)
theorem dX4_move_55 : decode cX4_move 55 = .ok (.ifCond .ne 7, 3) := dk_154 0 7 (dk_at dksX4_move_2 8 rfl rfl)
theorem dX4_move_58 : decode cX4_move 58 = .ok (.iconst 1, 1) := dk_4 (dk_at dksX4_move_2 11 rfl rfl)
theorem dX4_move_59 : decode cX4_move 59 = .ok (.goto 12, 3) := dk_167 0 12 (dk_at dksX4_move_2 12 rfl rfl)
theorem dX4_move_62 : decode cX4_move 62 = .ok (.iload_n 3, 1) := dk_29 (dk_at dksX4_move_2 15 rfl rfl)
theorem dX4_move_63 : decode cX4_move 63 = .ok (.ifCond .ne 7, 3) := dk_154 0 7 (dk_at dksX4_move_2 16 rfl rfl)
theorem dX4_move_66 : decode cX4_move 66 = .ok (.iconst 2, 1) := dk_5 (dk_at dksX4_move_2 19 rfl rfl)
theorem dX4_move_67 : decode cX4_move 67 = .ok (.goto 4, 3) := dk_167 0 4 (dk_at dksX4_move_2 20 rfl rfl)
theorem dX4_move_70 : decode cX4_move 70 = .ok (.iconst 0, 1) := dk_3 (dk_at dksX4_move_2 23 rfl rfl)
theorem dX4_move_71 : decode cX4_move 71 = .ok (.invokevirtual 215, 3) := dk_182 0 215 (dk_at dksX4_move_3 0 rfl rfl)
theorem dX4_move_74 : decode cX4_move 74 = .ok (.ifCond .eq 5, 3) := dk_153 0 5 (dk_at dksX4_move_3 3 rfl rfl)
theorem dX4_move_77 : decode cX4_move 77 = .ok (.iconst 0, 1) := dk_3 (dk_at dksX4_move_3 6 rfl rfl)
theorem dX4_move_78 : decode cX4_move 78 = .ok (.ireturn, 1) := dk_172 (dk_at dksX4_move_3 7 rfl rfl)
theorem dX4_move_79 : decode cX4_move 79 = .ok (.aload_n 0, 1) := dk_42 (dk_at dksX4_move_3 8 rfl rfl)
theorem dX4_move_80 : decode cX4_move 80 = .ok (.getfield 13, 3) := dk_180 0 13 (dk_at dksX4_move_3 9 rfl rfl)
theorem dX4_move_83 : decode cX4_move 83 = .ok (.iload_n 1, 1) := dk_27 (dk_at dksX4_move_3 12 rfl rfl)
theorem dX4_move_84 : decode cX4_move 84 = .ok (.iaload, 1) := dk_46 (dk_at dksX4_move_3 13 rfl rfl)
theorem dX4_move_85 : decode cX4_move 85 = .ok (.istore 4, 2) := dk_54 4 (dk_at dksX4_move_3 14 rfl rfl)
theorem dX4_move_87 : decode cX4_move 87 = .ok (.aload_n 0, 1) := dk_42 (dk_at dksX4_move_3 16 rfl rfl)
theorem dX4_move_88 : decode cX4_move 88 = .ok (.getfield 13, 3) := dk_180 0 13 (dk_at dksX4_move_3 17 rfl rfl)
theorem dX4_move_91 : decode cX4_move 91 = .ok (.iload_n 1, 1) := dk_27 (dk_at dksX4_move_3 20 rfl rfl)
theorem dX4_move_92 : decode cX4_move 92 = .ok (.iload_n 2, 1) := dk_28 (dk_at dksX4_move_3 21 rfl rfl)
theorem dX4_move_93 : decode cX4_move 93 = .ok (.iastore, 1) := dk_79 (dk_at dksX4_move_3 22 rfl rfl)
theorem dX4_move_94 : decode cX4_move 94 = .ok (.iload 4, 2) := dk_21 4 (dk_at dksX4_move_4 0 rfl rfl)
theorem dX4_move_96 : decode cX4_move 96 = .ok (.ireturn, 1) := dk_172 (dk_at dksX4_move_4 2 rfl rfl)
abbrev cX4_isEnd : ByteArray := prog_8_method_5_code
def yX4_isEnd : MethodName := ⟨RX4, "isEnd", "(I)Z"⟩
def dkwX4_isEnd_0 : List UInt8 := [26, 133, 9, 20, 0, 89, 184, 0, 91, 172]
abbrev dktX4_isEnd_0 : List UInt8 := dkwX4_isEnd_0 ++ []
theorem dksX4_isEnd_0 : cX4_isEnd.data.toList.drop 0 = dktX4_isEnd_0 := by decide +kernel
theorem dX4_isEnd_0 : decode cX4_isEnd 0 = .ok (.iload_n 0, 1) := dk_26 (dk_at dksX4_isEnd_0 0 rfl rfl)
theorem dX4_isEnd_1 : decode cX4_isEnd 1 = .ok (.i2l, 1) := dk_133 (dk_at dksX4_isEnd_0 1 rfl rfl)
theorem dX4_isEnd_2 : decode cX4_isEnd 2 = .ok (.lconst 0, 1) := dk_9 (dk_at dksX4_isEnd_0 2 rfl rfl)
theorem dX4_isEnd_3 : decode cX4_isEnd 3 = .ok (.ldc2_w 89, 3) := dk_20 0 89 (dk_at dksX4_isEnd_0 3 rfl rfl)
theorem dX4_isEnd_6 : decode cX4_isEnd 6 = .ok (.invokestatic 91, 3) := dk_184 0 91 (dk_at dksX4_isEnd_0 6 rfl rfl)
theorem dX4_isEnd_9 : decode cX4_isEnd 9 = .ok (.ireturn, 1) := dk_172 (dk_at dksX4_isEnd_0 9 rfl rfl)
abbrev cX4_load : ByteArray := prog_8_method_40_code
def yX4_load : MethodName := ⟨RX4, "load", "(IZ)Z"⟩
def dkwX4_load_1 : List UInt8 := [180, 0, 26, 27, 51, 62, 42, 180, 0, 26, 27, 28, 84, 29, 172]
abbrev dktX4_load_1 : List UInt8 := dkwX4_load_1 ++ []
def dkwX4_load_0 : List UInt8 := [42, 27, 184, 0, 98, 153, 0, 7, 3, 167, 0, 4, 4, 182, 0, 215, 153, 0, 5, 3, 172, 42]
abbrev dktX4_load_0 : List UInt8 := dkwX4_load_0 ++ dktX4_load_1
theorem dksX4_load_0 : cX4_load.data.toList.drop 0 = dktX4_load_0 := by decide +kernel
theorem dksX4_load_1 : cX4_load.data.toList.drop 22 = dktX4_load_1 := dk_seg dksX4_load_0 22 rfl rfl
theorem dX4_load_0 : decode cX4_load 0 = .ok (.aload_n 0, 1) := dk_42 (dk_at dksX4_load_0 0 rfl rfl)
theorem dX4_load_1 : decode cX4_load 1 = .ok (.iload_n 1, 1) := dk_27 (dk_at dksX4_load_0 1 rfl rfl)
theorem dX4_load_2 : decode cX4_load 2 = .ok (.invokestatic 98, 3) := dk_184 0 98 (dk_at dksX4_load_0 2 rfl rfl)
theorem dX4_load_5 : decode cX4_load 5 = .ok (.ifCond .eq 7, 3) := dk_153 0 7 (dk_at dksX4_load_0 5 rfl rfl)
theorem dX4_load_8 : decode cX4_load 8 = .ok (.iconst 0, 1) := dk_3 (dk_at dksX4_load_0 8 rfl rfl)
theorem dX4_load_9 : decode cX4_load 9 = .ok (.goto 4, 3) := dk_167 0 4 (dk_at dksX4_load_0 9 rfl rfl)
theorem dX4_load_12 : decode cX4_load 12 = .ok (.iconst 1, 1) := dk_4 (dk_at dksX4_load_0 12 rfl rfl)
theorem dX4_load_13 : decode cX4_load 13 = .ok (.invokevirtual 215, 3) := dk_182 0 215 (dk_at dksX4_load_0 13 rfl rfl)
theorem dX4_load_16 : decode cX4_load 16 = .ok (.ifCond .eq 5, 3) := dk_153 0 5 (dk_at dksX4_load_0 16 rfl rfl)
theorem dX4_load_19 : decode cX4_load 19 = .ok (.iconst 0, 1) := dk_3 (dk_at dksX4_load_0 19 rfl rfl)
theorem dX4_load_20 : decode cX4_load 20 = .ok (.ireturn, 1) := dk_172 (dk_at dksX4_load_0 20 rfl rfl)
theorem dX4_load_21 : decode cX4_load 21 = .ok (.aload_n 0, 1) := dk_42 (dk_at dksX4_load_0 21 rfl rfl)
theorem dX4_load_22 : decode cX4_load 22 = .ok (.getfield 26, 3) := dk_180 0 26 (dk_at dksX4_load_1 0 rfl rfl)
theorem dX4_load_25 : decode cX4_load 25 = .ok (.iload_n 1, 1) := dk_27 (dk_at dksX4_load_1 3 rfl rfl)
theorem dX4_load_26 : decode cX4_load 26 = .ok (.baload, 1) := dk_51 (dk_at dksX4_load_1 4 rfl rfl)
theorem dX4_load_27 : decode cX4_load 27 = .ok (.istore_n 3, 1) := dk_62 (dk_at dksX4_load_1 5 rfl rfl)
theorem dX4_load_28 : decode cX4_load 28 = .ok (.aload_n 0, 1) := dk_42 (dk_at dksX4_load_1 6 rfl rfl)
theorem dX4_load_29 : decode cX4_load 29 = .ok (.getfield 26, 3) := dk_180 0 26 (dk_at dksX4_load_1 7 rfl rfl)
theorem dX4_load_32 : decode cX4_load 32 = .ok (.iload_n 1, 1) := dk_27 (dk_at dksX4_load_1 10 rfl rfl)
theorem dX4_load_33 : decode cX4_load 33 = .ok (.iload_n 2, 1) := dk_28 (dk_at dksX4_load_1 11 rfl rfl)
theorem dX4_load_34 : decode cX4_load 34 = .ok (.bastore, 1) := dk_84 (dk_at dksX4_load_1 12 rfl rfl)
theorem dX4_load_35 : decode cX4_load 35 = .ok (.iload_n 3, 1) := dk_29 (dk_at dksX4_load_1 13 rfl rfl)
theorem dX4_load_36 : decode cX4_load 36 = .ok (.ireturn, 1) := dk_172 (dk_at dksX4_load_1 14 rfl rfl)
abbrev cX4_allow : ByteArray := prog_8_method_43_code
def yX4_allow : MethodName := ⟨RX4, "allow", "(IIII)I"⟩
def dkwX4_allow_7 : List UInt8 := [89, 4, 21, 4, 79, 89, 5, 28, 79, 83, 42, 180, 0, 17, 27, 46, 172]
abbrev dktX4_allow_7 : List UInt8 := dkwX4_allow_7 ++ []
def dkwX4_allow_6 : List UInt8 := [92, 46, 91, 4, 96, 79, 54, 8, 42, 180, 0, 32, 27, 50, 21, 8, 6, 188, 10, 89, 3, 21, 7, 79]
abbrev dktX4_allow_6 : List UInt8 := dkwX4_allow_6 ++ dktX4_allow_7
def dkwX4_allow_5 : List UInt8 := [54, 7, 42, 27, 21, 7, 21, 4, 182, 0, 230, 54, 8, 21, 8, 2, 160, 0, 16, 42, 180, 0, 17, 27]
abbrev dktX4_allow_5 : List UInt8 := dkwX4_allow_5 ++ dktX4_allow_6
def dkwX4_allow_4 : List UInt8 := [160, 0, 6, 6, 54, 6, 42, 21, 6, 182, 0, 215, 153, 0, 5, 3, 172, 29, 21, 4, 184, 0, 227]
abbrev dktX4_allow_4 : List UInt8 := dkwX4_allow_4 ++ dktX4_allow_5
def dkwX4_allow_3 : List UInt8 := [21, 4, 184, 0, 227, 21, 4, 182, 0, 230, 2, 160, 0, 17, 42, 180, 0, 17, 27, 46, 16, 8]
abbrev dktX4_allow_3 : List UInt8 := dkwX4_allow_3 ++ dktX4_allow_4
def dkwX4_allow_2 : List UInt8 := [28, 159, 0, 8, 21, 5, 154, 0, 7, 5, 167, 0, 4, 3, 54, 6, 21, 6, 154, 0, 34, 42, 27, 29]
abbrev dktX4_allow_2 : List UInt8 := dkwX4_allow_2 ++ dktX4_allow_3
def dkwX4_allow_1 : List UInt8 := [153, 0, 7, 4, 167, 0, 4, 3, 54, 5, 27, 28, 184, 0, 224, 4, 160, 0, 7, 4, 167, 0, 18, 27]
abbrev dktX4_allow_1 : List UInt8 := dkwX4_allow_1 ++ dktX4_allow_2
def dkwX4_allow_0 : List UInt8 := [29, 133, 9, 20, 0, 220, 184, 0, 91, 153, 0, 20, 21, 4, 133, 9, 20, 0, 222, 184, 0, 91]
abbrev dktX4_allow_0 : List UInt8 := dkwX4_allow_0 ++ dktX4_allow_1
theorem dksX4_allow_0 : cX4_allow.data.toList.drop 0 = dktX4_allow_0 := by decide +kernel
theorem dksX4_allow_1 : cX4_allow.data.toList.drop 22 = dktX4_allow_1 := dk_seg dksX4_allow_0 22 rfl rfl
theorem dksX4_allow_2 : cX4_allow.data.toList.drop 46 = dktX4_allow_2 := dk_seg dksX4_allow_1 24 rfl rfl
theorem dksX4_allow_3 : cX4_allow.data.toList.drop 70 = dktX4_allow_3 := dk_seg dksX4_allow_2 24 rfl rfl
theorem dksX4_allow_4 : cX4_allow.data.toList.drop 92 = dktX4_allow_4 := dk_seg dksX4_allow_3 22 rfl rfl
theorem dksX4_allow_5 : cX4_allow.data.toList.drop 115 = dktX4_allow_5 := dk_seg dksX4_allow_4 23 rfl rfl
theorem dksX4_allow_6 : cX4_allow.data.toList.drop 139 = dktX4_allow_6 := dk_seg dksX4_allow_5 24 rfl rfl
theorem dksX4_allow_7 : cX4_allow.data.toList.drop 163 = dktX4_allow_7 := dk_seg dksX4_allow_6 24 rfl rfl
theorem dX4_allow_0 : decode cX4_allow 0 = .ok (.iload_n 3, 1) := dk_29 (dk_at dksX4_allow_0 0 rfl rfl)
theorem dX4_allow_1 : decode cX4_allow 1 = .ok (.i2l, 1) := dk_133 (dk_at dksX4_allow_0 1 rfl rfl)
theorem dX4_allow_2 : decode cX4_allow 2 = .ok (.lconst 0, 1) := dk_9 (dk_at dksX4_allow_0 2 rfl rfl)
theorem dX4_allow_3 : decode cX4_allow 3 = .ok (.ldc2_w 220, 3) := dk_20 0 220 (dk_at dksX4_allow_0 3 rfl rfl)
theorem dX4_allow_6 : decode cX4_allow 6 = .ok (.invokestatic 91, 3) := dk_184 0 91 (dk_at dksX4_allow_0 6 rfl rfl)
theorem dX4_allow_9 : decode cX4_allow 9 = .ok (.ifCond .eq 20, 3) := dk_153 0 20 (dk_at dksX4_allow_0 9 rfl rfl)
theorem dX4_allow_12 : decode cX4_allow 12 = .ok (.iload 4, 2) := dk_21 4 (dk_at dksX4_allow_0 12 rfl rfl)
theorem dX4_allow_14 : decode cX4_allow 14 = .ok (.i2l, 1) := dk_133 (dk_at dksX4_allow_0 14 rfl rfl)
theorem dX4_allow_15 : decode cX4_allow 15 = .ok (.lconst 0, 1) := dk_9 (dk_at dksX4_allow_0 15 rfl rfl)
theorem dX4_allow_16 : decode cX4_allow 16 = .ok (.ldc2_w 222, 3) := dk_20 0 222 (dk_at dksX4_allow_0 16 rfl rfl)
theorem dX4_allow_19 : decode cX4_allow 19 = .ok (.invokestatic 91, 3) := dk_184 0 91 (dk_at dksX4_allow_0 19 rfl rfl)
theorem dX4_allow_22 : decode cX4_allow 22 = .ok (.ifCond .eq 7, 3) := dk_153 0 7 (dk_at dksX4_allow_1 0 rfl rfl)
theorem dX4_allow_25 : decode cX4_allow 25 = .ok (.iconst 1, 1) := dk_4 (dk_at dksX4_allow_1 3 rfl rfl)
theorem dX4_allow_26 : decode cX4_allow 26 = .ok (.goto 4, 3) := dk_167 0 4 (dk_at dksX4_allow_1 4 rfl rfl)
theorem dX4_allow_29 : decode cX4_allow 29 = .ok (.iconst 0, 1) := dk_3 (dk_at dksX4_allow_1 7 rfl rfl)
theorem dX4_allow_30 : decode cX4_allow 30 = .ok (.istore 5, 2) := dk_54 5 (dk_at dksX4_allow_1 8 rfl rfl)
theorem dX4_allow_32 : decode cX4_allow 32 = .ok (.iload_n 1, 1) := dk_27 (dk_at dksX4_allow_1 10 rfl rfl)
theorem dX4_allow_33 : decode cX4_allow 33 = .ok (.iload_n 2, 1) := dk_28 (dk_at dksX4_allow_1 11 rfl rfl)
theorem dX4_allow_34 : decode cX4_allow 34 = .ok (.invokestatic 224, 3) := dk_184 0 224 (dk_at dksX4_allow_1 12 rfl rfl)
theorem dX4_allow_37 : decode cX4_allow 37 = .ok (.iconst 1, 1) := dk_4 (dk_at dksX4_allow_1 15 rfl rfl)
theorem dX4_allow_38 : decode cX4_allow 38 = .ok (.if_icmp .ne 7, 3) := dk_160 0 7 (dk_at dksX4_allow_1 16 rfl rfl)
theorem dX4_allow_41 : decode cX4_allow 41 = .ok (.iconst 1, 1) := dk_4 (dk_at dksX4_allow_1 19 rfl rfl)
theorem dX4_allow_42 : decode cX4_allow 42 = .ok (.goto 18, 3) := dk_167 0 18 (dk_at dksX4_allow_1 20 rfl rfl)
theorem dX4_allow_45 : decode cX4_allow 45 = .ok (.iload_n 1, 1) := dk_27 (dk_at dksX4_allow_1 23 rfl rfl)
theorem dX4_allow_46 : decode cX4_allow 46 = .ok (.iload_n 2, 1) := dk_28 (dk_at dksX4_allow_2 0 rfl rfl)
theorem dX4_allow_47 : decode cX4_allow 47 = .ok (.if_icmp .eq 8, 3) := dk_159 0 8 (dk_at dksX4_allow_2 1 rfl rfl)
theorem dX4_allow_50 : decode cX4_allow 50 = .ok (.iload 5, 2) := dk_21 5 (dk_at dksX4_allow_2 4 rfl rfl)
theorem dX4_allow_52 : decode cX4_allow 52 = .ok (.ifCond .ne 7, 3) := dk_154 0 7 (dk_at dksX4_allow_2 6 rfl rfl)
theorem dX4_allow_55 : decode cX4_allow 55 = .ok (.iconst 2, 1) := dk_5 (dk_at dksX4_allow_2 9 rfl rfl)
theorem dX4_allow_56 : decode cX4_allow 56 = .ok (.goto 4, 3) := dk_167 0 4 (dk_at dksX4_allow_2 10 rfl rfl)
theorem dX4_allow_59 : decode cX4_allow 59 = .ok (.iconst 0, 1) := dk_3 (dk_at dksX4_allow_2 13 rfl rfl)
theorem dX4_allow_60 : decode cX4_allow 60 = .ok (.istore 6, 2) := dk_54 6 (dk_at dksX4_allow_2 14 rfl rfl)
theorem dX4_allow_62 : decode cX4_allow 62 = .ok (.iload 6, 2) := dk_21 6 (dk_at dksX4_allow_2 16 rfl rfl)
theorem dX4_allow_64 : decode cX4_allow 64 = .ok (.ifCond .ne 34, 3) := dk_154 0 34 (dk_at dksX4_allow_2 18 rfl rfl)
theorem dX4_allow_67 : decode cX4_allow 67 = .ok (.aload_n 0, 1) := dk_42 (dk_at dksX4_allow_2 21 rfl rfl)
theorem dX4_allow_68 : decode cX4_allow 68 = .ok (.iload_n 1, 1) := dk_27 (dk_at dksX4_allow_2 22 rfl rfl)
theorem dX4_allow_69 : decode cX4_allow 69 = .ok (.iload_n 3, 1) := dk_29 (dk_at dksX4_allow_2 23 rfl rfl)
theorem dX4_allow_70 : decode cX4_allow 70 = .ok (.iload 4, 2) := dk_21 4 (dk_at dksX4_allow_3 0 rfl rfl)
theorem dX4_allow_72 : decode cX4_allow 72 = .ok (.invokestatic 227, 3) := dk_184 0 227 (dk_at dksX4_allow_3 2 rfl rfl)
theorem dX4_allow_75 : decode cX4_allow 75 = .ok (.iload 4, 2) := dk_21 4 (dk_at dksX4_allow_3 5 rfl rfl)
theorem dX4_allow_77 : decode cX4_allow 77 = .ok (.invokevirtual 230, 3) := dk_182 0 230 (dk_at dksX4_allow_3 7 rfl rfl)
theorem dX4_allow_80 : decode cX4_allow 80 = .ok (.iconst (-1), 1) := dk_2 (dk_at dksX4_allow_3 10 rfl rfl)
theorem dX4_allow_81 : decode cX4_allow 81 = .ok (.if_icmp .ne 17, 3) := dk_160 0 17 (dk_at dksX4_allow_3 11 rfl rfl)
theorem dX4_allow_84 : decode cX4_allow 84 = .ok (.aload_n 0, 1) := dk_42 (dk_at dksX4_allow_3 14 rfl rfl)
theorem dX4_allow_85 : decode cX4_allow 85 = .ok (.getfield 17, 3) := dk_180 0 17 (dk_at dksX4_allow_3 15 rfl rfl)
theorem dX4_allow_88 : decode cX4_allow 88 = .ok (.iload_n 1, 1) := dk_27 (dk_at dksX4_allow_3 18 rfl rfl)
theorem dX4_allow_89 : decode cX4_allow 89 = .ok (.iaload, 1) := dk_46 (dk_at dksX4_allow_3 19 rfl rfl)
theorem dX4_allow_90 : decode cX4_allow 90 = .ok (.bipush 8, 2) := dk_16 8 (dk_at dksX4_allow_3 20 rfl rfl)
theorem dX4_allow_92 : decode cX4_allow 92 = .ok (.if_icmp .ne 6, 3) := dk_160 0 6 (dk_at dksX4_allow_4 0 rfl rfl)
theorem dX4_allow_95 : decode cX4_allow 95 = .ok (.iconst 3, 1) := dk_6 (dk_at dksX4_allow_4 3 rfl rfl)
theorem dX4_allow_96 : decode cX4_allow 96 = .ok (.istore 6, 2) := dk_54 6 (dk_at dksX4_allow_4 4 rfl rfl)
theorem dX4_allow_98 : decode cX4_allow 98 = .ok (.aload_n 0, 1) := dk_42 (dk_at dksX4_allow_4 6 rfl rfl)
theorem dX4_allow_99 : decode cX4_allow 99 = .ok (.iload 6, 2) := dk_21 6 (dk_at dksX4_allow_4 7 rfl rfl)
theorem dX4_allow_101 : decode cX4_allow 101 = .ok (.invokevirtual 215, 3) := dk_182 0 215 (dk_at dksX4_allow_4 9 rfl rfl)
theorem dX4_allow_104 : decode cX4_allow 104 = .ok (.ifCond .eq 5, 3) := dk_153 0 5 (dk_at dksX4_allow_4 12 rfl rfl)
theorem dX4_allow_107 : decode cX4_allow 107 = .ok (.iconst 0, 1) := dk_3 (dk_at dksX4_allow_4 15 rfl rfl)
theorem dX4_allow_108 : decode cX4_allow 108 = .ok (.ireturn, 1) := dk_172 (dk_at dksX4_allow_4 16 rfl rfl)
theorem dX4_allow_109 : decode cX4_allow 109 = .ok (.iload_n 3, 1) := dk_29 (dk_at dksX4_allow_4 17 rfl rfl)
theorem dX4_allow_110 : decode cX4_allow 110 = .ok (.iload 4, 2) := dk_21 4 (dk_at dksX4_allow_4 18 rfl rfl)
theorem dX4_allow_112 : decode cX4_allow 112 = .ok (.invokestatic 227, 3) := dk_184 0 227 (dk_at dksX4_allow_4 20 rfl rfl)
theorem dX4_allow_115 : decode cX4_allow 115 = .ok (.istore 7, 2) := dk_54 7 (dk_at dksX4_allow_5 0 rfl rfl)
theorem dX4_allow_117 : decode cX4_allow 117 = .ok (.aload_n 0, 1) := dk_42 (dk_at dksX4_allow_5 2 rfl rfl)
theorem dX4_allow_118 : decode cX4_allow 118 = .ok (.iload_n 1, 1) := dk_27 (dk_at dksX4_allow_5 3 rfl rfl)
theorem dX4_allow_119 : decode cX4_allow 119 = .ok (.iload 7, 2) := dk_21 7 (dk_at dksX4_allow_5 4 rfl rfl)
theorem dX4_allow_121 : decode cX4_allow 121 = .ok (.iload 4, 2) := dk_21 4 (dk_at dksX4_allow_5 6 rfl rfl)
theorem dX4_allow_123 : decode cX4_allow 123 = .ok (.invokevirtual 230, 3) := dk_182 0 230 (dk_at dksX4_allow_5 8 rfl rfl)
theorem dX4_allow_126 : decode cX4_allow 126 = .ok (.istore 8, 2) := dk_54 8 (dk_at dksX4_allow_5 11 rfl rfl)
theorem dX4_allow_128 : decode cX4_allow 128 = .ok (.iload 8, 2) := dk_21 8 (dk_at dksX4_allow_5 13 rfl rfl)
theorem dX4_allow_130 : decode cX4_allow 130 = .ok (.iconst (-1), 1) := dk_2 (dk_at dksX4_allow_5 15 rfl rfl)
theorem dX4_allow_131 : decode cX4_allow 131 = .ok (.if_icmp .ne 16, 3) := dk_160 0 16 (dk_at dksX4_allow_5 16 rfl rfl)
theorem dX4_allow_134 : decode cX4_allow 134 = .ok (.aload_n 0, 1) := dk_42 (dk_at dksX4_allow_5 19 rfl rfl)
theorem dX4_allow_135 : decode cX4_allow 135 = .ok (.getfield 17, 3) := dk_180 0 17 (dk_at dksX4_allow_5 20 rfl rfl)
theorem dX4_allow_138 : decode cX4_allow 138 = .ok (.iload_n 1, 1) := dk_27 (dk_at dksX4_allow_5 23 rfl rfl)
theorem dX4_allow_139 : decode cX4_allow 139 = .ok (.dup2, 1) := dk_92 (dk_at dksX4_allow_6 0 rfl rfl)
theorem dX4_allow_140 : decode cX4_allow 140 = .ok (.iaload, 1) := dk_46 (dk_at dksX4_allow_6 1 rfl rfl)
theorem dX4_allow_141 : decode cX4_allow 141 = .ok (.dup_x2, 1) := dk_91 (dk_at dksX4_allow_6 2 rfl rfl)
theorem dX4_allow_142 : decode cX4_allow 142 = .ok (.iconst 1, 1) := dk_4 (dk_at dksX4_allow_6 3 rfl rfl)
theorem dX4_allow_143 : decode cX4_allow 143 = .ok (.iadd, 1) := dk_96 (dk_at dksX4_allow_6 4 rfl rfl)
theorem dX4_allow_144 : decode cX4_allow 144 = .ok (.iastore, 1) := dk_79 (dk_at dksX4_allow_6 5 rfl rfl)
theorem dX4_allow_145 : decode cX4_allow 145 = .ok (.istore 8, 2) := dk_54 8 (dk_at dksX4_allow_6 6 rfl rfl)
theorem dX4_allow_147 : decode cX4_allow 147 = .ok (.aload_n 0, 1) := dk_42 (dk_at dksX4_allow_6 8 rfl rfl)
theorem dX4_allow_148 : decode cX4_allow 148 = .ok (.getfield 32, 3) := dk_180 0 32 (dk_at dksX4_allow_6 9 rfl rfl)
theorem dX4_allow_151 : decode cX4_allow 151 = .ok (.iload_n 1, 1) := dk_27 (dk_at dksX4_allow_6 12 rfl rfl)
theorem dX4_allow_152 : decode cX4_allow 152 = .ok (.aaload, 1) := dk_50 (dk_at dksX4_allow_6 13 rfl rfl)
theorem dX4_allow_153 : decode cX4_allow 153 = .ok (.iload 8, 2) := dk_21 8 (dk_at dksX4_allow_6 14 rfl rfl)
theorem dX4_allow_155 : decode cX4_allow 155 = .ok (.iconst 3, 1) := dk_6 (dk_at dksX4_allow_6 16 rfl rfl)
theorem dX4_allow_156 : decode cX4_allow 156 = .ok (.newarray .int, 2) := dk_188_10 (dk_at dksX4_allow_6 17 rfl rfl)
theorem dX4_allow_158 : decode cX4_allow 158 = .ok (.dup, 1) := dk_89 (dk_at dksX4_allow_6 19 rfl rfl)
theorem dX4_allow_159 : decode cX4_allow 159 = .ok (.iconst 0, 1) := dk_3 (dk_at dksX4_allow_6 20 rfl rfl)
theorem dX4_allow_160 : decode cX4_allow 160 = .ok (.iload 7, 2) := dk_21 7 (dk_at dksX4_allow_6 21 rfl rfl)
theorem dX4_allow_162 : decode cX4_allow 162 = .ok (.iastore, 1) := dk_79 (dk_at dksX4_allow_6 23 rfl rfl)
theorem dX4_allow_163 : decode cX4_allow 163 = .ok (.dup, 1) := dk_89 (dk_at dksX4_allow_7 0 rfl rfl)
theorem dX4_allow_164 : decode cX4_allow 164 = .ok (.iconst 1, 1) := dk_4 (dk_at dksX4_allow_7 1 rfl rfl)
theorem dX4_allow_165 : decode cX4_allow 165 = .ok (.iload 4, 2) := dk_21 4 (dk_at dksX4_allow_7 2 rfl rfl)
theorem dX4_allow_167 : decode cX4_allow 167 = .ok (.iastore, 1) := dk_79 (dk_at dksX4_allow_7 4 rfl rfl)
theorem dX4_allow_168 : decode cX4_allow 168 = .ok (.dup, 1) := dk_89 (dk_at dksX4_allow_7 5 rfl rfl)
theorem dX4_allow_169 : decode cX4_allow 169 = .ok (.iconst 2, 1) := dk_5 (dk_at dksX4_allow_7 6 rfl rfl)
theorem dX4_allow_170 : decode cX4_allow 170 = .ok (.iload_n 2, 1) := dk_28 (dk_at dksX4_allow_7 7 rfl rfl)
theorem dX4_allow_171 : decode cX4_allow 171 = .ok (.iastore, 1) := dk_79 (dk_at dksX4_allow_7 8 rfl rfl)
theorem dX4_allow_172 : decode cX4_allow 172 = .ok (.aastore, 1) := dk_83 (dk_at dksX4_allow_7 9 rfl rfl)
theorem dX4_allow_173 : decode cX4_allow 173 = .ok (.aload_n 0, 1) := dk_42 (dk_at dksX4_allow_7 10 rfl rfl)
theorem dX4_allow_174 : decode cX4_allow 174 = .ok (.getfield 17, 3) := dk_180 0 17 (dk_at dksX4_allow_7 11 rfl rfl)
theorem dX4_allow_177 : decode cX4_allow 177 = .ok (.iload_n 1, 1) := dk_27 (dk_at dksX4_allow_7 14 rfl rfl)
theorem dX4_allow_178 : decode cX4_allow 178 = .ok (.iaload, 1) := dk_46 (dk_at dksX4_allow_7 15 rfl rfl)
theorem dX4_allow_179 : decode cX4_allow 179 = .ok (.ireturn, 1) := dk_172 (dk_at dksX4_allow_7 16 rfl rfl)
abbrev cX4_pair : ByteArray := prog_8_method_7_code
def yX4_pair : MethodName := ⟨RX4, "pair", "(II)I"⟩
def dkwX4_pair_1 : List UInt8 := [167, 0, 4, 3, 172]
abbrev dktX4_pair_1 : List UInt8 := dkwX4_pair_1 ++ []
def dkwX4_pair_0 : List UInt8 := [26, 184, 0, 98, 153, 0, 10, 27, 184, 0, 98, 154, 0, 7, 4, 167, 0, 13, 26, 27, 160, 0, 7, 5]
abbrev dktX4_pair_0 : List UInt8 := dkwX4_pair_0 ++ dktX4_pair_1
theorem dksX4_pair_0 : cX4_pair.data.toList.drop 0 = dktX4_pair_0 := by decide +kernel
theorem dksX4_pair_1 : cX4_pair.data.toList.drop 24 = dktX4_pair_1 := dk_seg dksX4_pair_0 24 rfl rfl
theorem dX4_pair_0 : decode cX4_pair 0 = .ok (.iload_n 0, 1) := dk_26 (dk_at dksX4_pair_0 0 rfl rfl)
theorem dX4_pair_1 : decode cX4_pair 1 = .ok (.invokestatic 98, 3) := dk_184 0 98 (dk_at dksX4_pair_0 1 rfl rfl)
theorem dX4_pair_4 : decode cX4_pair 4 = .ok (.ifCond .eq 10, 3) := dk_153 0 10 (dk_at dksX4_pair_0 4 rfl rfl)
theorem dX4_pair_7 : decode cX4_pair 7 = .ok (.iload_n 1, 1) := dk_27 (dk_at dksX4_pair_0 7 rfl rfl)
theorem dX4_pair_8 : decode cX4_pair 8 = .ok (.invokestatic 98, 3) := dk_184 0 98 (dk_at dksX4_pair_0 8 rfl rfl)
theorem dX4_pair_11 : decode cX4_pair 11 = .ok (.ifCond .ne 7, 3) := dk_154 0 7 (dk_at dksX4_pair_0 11 rfl rfl)
theorem dX4_pair_14 : decode cX4_pair 14 = .ok (.iconst 1, 1) := dk_4 (dk_at dksX4_pair_0 14 rfl rfl)
theorem dX4_pair_15 : decode cX4_pair 15 = .ok (.goto 13, 3) := dk_167 0 13 (dk_at dksX4_pair_0 15 rfl rfl)
theorem dX4_pair_18 : decode cX4_pair 18 = .ok (.iload_n 0, 1) := dk_26 (dk_at dksX4_pair_0 18 rfl rfl)
theorem dX4_pair_19 : decode cX4_pair 19 = .ok (.iload_n 1, 1) := dk_27 (dk_at dksX4_pair_0 19 rfl rfl)
theorem dX4_pair_20 : decode cX4_pair 20 = .ok (.if_icmp .ne 7, 3) := dk_160 0 7 (dk_at dksX4_pair_0 20 rfl rfl)
theorem dX4_pair_23 : decode cX4_pair 23 = .ok (.iconst 2, 1) := dk_5 (dk_at dksX4_pair_0 23 rfl rfl)
theorem dX4_pair_24 : decode cX4_pair 24 = .ok (.goto 4, 3) := dk_167 0 4 (dk_at dksX4_pair_1 0 rfl rfl)
theorem dX4_pair_27 : decode cX4_pair 27 = .ok (.iconst 0, 1) := dk_3 (dk_at dksX4_pair_1 3 rfl rfl)
theorem dX4_pair_28 : decode cX4_pair 28 = .ok (.ireturn, 1) := dk_172 (dk_at dksX4_pair_1 4 rfl rfl)
abbrev cX4_counting : ByteArray := prog_8_method_42_code
def yX4_counting : MethodName := ⟨RX4, "counting", "(II)I"⟩
def dkwX4_counting_0 : List UInt8 := [26, 16, 8, 27, 100, 122, 16, 8, 27, 100, 120, 172]
abbrev dktX4_counting_0 : List UInt8 := dkwX4_counting_0 ++ []
theorem dksX4_counting_0 : cX4_counting.data.toList.drop 0 = dktX4_counting_0 := by decide +kernel
theorem dX4_counting_0 : decode cX4_counting 0 = .ok (.iload_n 0, 1) := dk_26 (dk_at dksX4_counting_0 0 rfl rfl)
theorem dX4_counting_1 : decode cX4_counting 1 = .ok (.bipush 8, 2) := dk_16 8 (dk_at dksX4_counting_0 1 rfl rfl)
theorem dX4_counting_3 : decode cX4_counting 3 = .ok (.iload_n 1, 1) := dk_27 (dk_at dksX4_counting_0 3 rfl rfl)
theorem dX4_counting_4 : decode cX4_counting 4 = .ok (.isub, 1) := dk_100 (dk_at dksX4_counting_0 4 rfl rfl)
theorem dX4_counting_5 : decode cX4_counting 5 = .ok (.ishr, 1) := dk_122 (dk_at dksX4_counting_0 5 rfl rfl)
theorem dX4_counting_6 : decode cX4_counting 6 = .ok (.bipush 8, 2) := dk_16 8 (dk_at dksX4_counting_0 6 rfl rfl)
theorem dX4_counting_8 : decode cX4_counting 8 = .ok (.iload_n 1, 1) := dk_27 (dk_at dksX4_counting_0 8 rfl rfl)
theorem dX4_counting_9 : decode cX4_counting 9 = .ok (.isub, 1) := dk_100 (dk_at dksX4_counting_0 9 rfl rfl)
theorem dX4_counting_10 : decode cX4_counting 10 = .ok (.ishl, 1) := dk_120 (dk_at dksX4_counting_0 10 rfl rfl)
theorem dX4_counting_11 : decode cX4_counting 11 = .ok (.ireturn, 1) := dk_172 (dk_at dksX4_counting_0 11 rfl rfl)
abbrev cX4_place : ByteArray := prog_8_method_41_code
def yX4_place : MethodName := ⟨RX4, "place", "(III)I"⟩
def dkwX4_place_2 : List UInt8 := [132, 4, 1, 167, 255, 209, 2, 172]
abbrev dktX4_place_2 : List UInt8 := dkwX4_place_2 ++ []
def dkwX4_place_1 : List UInt8 := [46, 28, 160, 0, 21, 42, 180, 0, 32, 27, 50, 21, 4, 50, 4, 46, 29, 160, 0, 6, 21, 4, 172]
abbrev dktX4_place_1 : List UInt8 := dkwX4_place_1 ++ dktX4_place_2
def dkwX4_place_0 : List UInt8 := [3, 54, 4, 21, 4, 42, 180, 0, 17, 27, 46, 162, 0, 42, 42, 180, 0, 32, 27, 50, 21, 4, 50, 3]
abbrev dktX4_place_0 : List UInt8 := dkwX4_place_0 ++ dktX4_place_1
theorem dksX4_place_0 : cX4_place.data.toList.drop 0 = dktX4_place_0 := by decide +kernel
theorem dksX4_place_1 : cX4_place.data.toList.drop 24 = dktX4_place_1 := dk_seg dksX4_place_0 24 rfl rfl
theorem dksX4_place_2 : cX4_place.data.toList.drop 47 = dktX4_place_2 := dk_seg dksX4_place_1 23 rfl rfl
theorem dX4_place_0 : decode cX4_place 0 = .ok (.iconst 0, 1) := dk_3 (dk_at dksX4_place_0 0 rfl rfl)
theorem dX4_place_1 : decode cX4_place 1 = .ok (.istore 4, 2) := dk_54 4 (dk_at dksX4_place_0 1 rfl rfl)
theorem dX4_place_3 : decode cX4_place 3 = .ok (.iload 4, 2) := dk_21 4 (dk_at dksX4_place_0 3 rfl rfl)
theorem dX4_place_5 : decode cX4_place 5 = .ok (.aload_n 0, 1) := dk_42 (dk_at dksX4_place_0 5 rfl rfl)
theorem dX4_place_6 : decode cX4_place 6 = .ok (.getfield 17, 3) := dk_180 0 17 (dk_at dksX4_place_0 6 rfl rfl)
theorem dX4_place_9 : decode cX4_place 9 = .ok (.iload_n 1, 1) := dk_27 (dk_at dksX4_place_0 9 rfl rfl)
theorem dX4_place_10 : decode cX4_place 10 = .ok (.iaload, 1) := dk_46 (dk_at dksX4_place_0 10 rfl rfl)
theorem dX4_place_11 : decode cX4_place 11 = .ok (.if_icmp .ge 42, 3) := dk_162 0 42 (dk_at dksX4_place_0 11 rfl rfl)
theorem dX4_place_14 : decode cX4_place 14 = .ok (.aload_n 0, 1) := dk_42 (dk_at dksX4_place_0 14 rfl rfl)
theorem dX4_place_15 : decode cX4_place 15 = .ok (.getfield 32, 3) := dk_180 0 32 (dk_at dksX4_place_0 15 rfl rfl)
theorem dX4_place_18 : decode cX4_place 18 = .ok (.iload_n 1, 1) := dk_27 (dk_at dksX4_place_0 18 rfl rfl)
theorem dX4_place_19 : decode cX4_place 19 = .ok (.aaload, 1) := dk_50 (dk_at dksX4_place_0 19 rfl rfl)
theorem dX4_place_20 : decode cX4_place 20 = .ok (.iload 4, 2) := dk_21 4 (dk_at dksX4_place_0 20 rfl rfl)
theorem dX4_place_22 : decode cX4_place 22 = .ok (.aaload, 1) := dk_50 (dk_at dksX4_place_0 22 rfl rfl)
theorem dX4_place_23 : decode cX4_place 23 = .ok (.iconst 0, 1) := dk_3 (dk_at dksX4_place_0 23 rfl rfl)
theorem dX4_place_24 : decode cX4_place 24 = .ok (.iaload, 1) := dk_46 (dk_at dksX4_place_1 0 rfl rfl)
theorem dX4_place_25 : decode cX4_place 25 = .ok (.iload_n 2, 1) := dk_28 (dk_at dksX4_place_1 1 rfl rfl)
theorem dX4_place_26 : decode cX4_place 26 = .ok (.if_icmp .ne 21, 3) := dk_160 0 21 (dk_at dksX4_place_1 2 rfl rfl)
theorem dX4_place_29 : decode cX4_place 29 = .ok (.aload_n 0, 1) := dk_42 (dk_at dksX4_place_1 5 rfl rfl)
theorem dX4_place_30 : decode cX4_place 30 = .ok (.getfield 32, 3) := dk_180 0 32 (dk_at dksX4_place_1 6 rfl rfl)
theorem dX4_place_33 : decode cX4_place 33 = .ok (.iload_n 1, 1) := dk_27 (dk_at dksX4_place_1 9 rfl rfl)
theorem dX4_place_34 : decode cX4_place 34 = .ok (.aaload, 1) := dk_50 (dk_at dksX4_place_1 10 rfl rfl)
theorem dX4_place_35 : decode cX4_place 35 = .ok (.iload 4, 2) := dk_21 4 (dk_at dksX4_place_1 11 rfl rfl)
theorem dX4_place_37 : decode cX4_place 37 = .ok (.aaload, 1) := dk_50 (dk_at dksX4_place_1 13 rfl rfl)
theorem dX4_place_38 : decode cX4_place 38 = .ok (.iconst 1, 1) := dk_4 (dk_at dksX4_place_1 14 rfl rfl)
theorem dX4_place_39 : decode cX4_place 39 = .ok (.iaload, 1) := dk_46 (dk_at dksX4_place_1 15 rfl rfl)
theorem dX4_place_40 : decode cX4_place 40 = .ok (.iload_n 3, 1) := dk_29 (dk_at dksX4_place_1 16 rfl rfl)
theorem dX4_place_41 : decode cX4_place 41 = .ok (.if_icmp .ne 6, 3) := dk_160 0 6 (dk_at dksX4_place_1 17 rfl rfl)
theorem dX4_place_44 : decode cX4_place 44 = .ok (.iload 4, 2) := dk_21 4 (dk_at dksX4_place_1 20 rfl rfl)
theorem dX4_place_46 : decode cX4_place 46 = .ok (.ireturn, 1) := dk_172 (dk_at dksX4_place_1 22 rfl rfl)
theorem dX4_place_47 : decode cX4_place 47 = .ok (.iinc 4 1, 3) := dk_132 4 1 (dk_at dksX4_place_2 0 rfl rfl)
theorem dX4_place_50 : decode cX4_place 50 = .ok (.goto (-47), 3) := dk_167 255 209 (dk_at dksX4_place_2 3 rfl rfl)
theorem dX4_place_53 : decode cX4_place 53 = .ok (.iconst (-1), 1) := dk_2 (dk_at dksX4_place_2 6 rfl rfl)
theorem dX4_place_54 : decode cX4_place 54 = .ok (.ireturn, 1) := dk_172 (dk_at dksX4_place_2 7 rfl rfl)
abbrev cX4_forbid : ByteArray := prog_8_method_44_code
def yX4_forbid : MethodName := ⟨RX4, "forbid", "(III)I"⟩
def dkwX4_forbid_6 : List UInt8 := [172]
abbrev dktX4_forbid_6 : List UInt8 := dkwX4_forbid_6 ++ []
def dkwX4_forbid_5 : List UInt8 := [50, 21, 6, 4, 96, 50, 83, 132, 6, 1, 167, 255, 220, 42, 180, 0, 17, 27, 92, 46, 4, 100, 91, 79]
abbrev dktX4_forbid_5 : List UInt8 := dkwX4_forbid_5 ++ dktX4_forbid_6
def dkwX4_forbid_4 : List UInt8 := [42, 180, 0, 17, 27, 46, 4, 100, 162, 0, 29, 42, 180, 0, 32, 27, 50, 21, 6, 42, 180, 0, 32, 27]
abbrev dktX4_forbid_4 : List UInt8 := dkwX4_forbid_4 ++ dktX4_forbid_5
def dkwX4_forbid_3 : List UInt8 := [2, 160, 0, 7, 6, 167, 0, 5, 21, 4, 182, 0, 215, 153, 0, 5, 3, 172, 21, 5, 54, 6, 21, 6]
abbrev dktX4_forbid_3 : List UInt8 := dkwX4_forbid_3 ++ dktX4_forbid_4
def dkwX4_forbid_2 : List UInt8 := [27, 28, 29, 184, 0, 227, 29, 182, 0, 230, 167, 0, 4, 2, 54, 5, 42, 21, 4, 154, 0, 13, 21, 5]
abbrev dktX4_forbid_2 : List UInt8 := dkwX4_forbid_2 ++ dktX4_forbid_3
def dkwX4_forbid_1 : List UInt8 := [133, 9, 20, 0, 222, 184, 0, 91, 154, 0, 7, 5, 167, 0, 4, 3, 54, 4, 21, 4, 154, 0, 17, 42]
abbrev dktX4_forbid_1 : List UInt8 := dkwX4_forbid_1 ++ dktX4_forbid_2
def dkwX4_forbid_0 : List UInt8 := [27, 184, 0, 98, 154, 0, 7, 4, 167, 0, 32, 28, 133, 9, 20, 0, 220, 184, 0, 91, 153, 0, 15, 29]
abbrev dktX4_forbid_0 : List UInt8 := dkwX4_forbid_0 ++ dktX4_forbid_1
theorem dksX4_forbid_0 : cX4_forbid.data.toList.drop 0 = dktX4_forbid_0 := by decide +kernel
theorem dksX4_forbid_1 : cX4_forbid.data.toList.drop 24 = dktX4_forbid_1 := dk_seg dksX4_forbid_0 24 rfl rfl
theorem dksX4_forbid_2 : cX4_forbid.data.toList.drop 48 = dktX4_forbid_2 := dk_seg dksX4_forbid_1 24 rfl rfl
theorem dksX4_forbid_3 : cX4_forbid.data.toList.drop 72 = dktX4_forbid_3 := dk_seg dksX4_forbid_2 24 rfl rfl
theorem dksX4_forbid_4 : cX4_forbid.data.toList.drop 96 = dktX4_forbid_4 := dk_seg dksX4_forbid_3 24 rfl rfl
theorem dksX4_forbid_5 : cX4_forbid.data.toList.drop 120 = dktX4_forbid_5 := dk_seg dksX4_forbid_4 24 rfl rfl
theorem dksX4_forbid_6 : cX4_forbid.data.toList.drop 144 = dktX4_forbid_6 := dk_seg dksX4_forbid_5 24 rfl rfl
theorem dX4_forbid_0 : decode cX4_forbid 0 = .ok (.iload_n 1, 1) := dk_27 (dk_at dksX4_forbid_0 0 rfl rfl)
theorem dX4_forbid_1 : decode cX4_forbid 1 = .ok (.invokestatic 98, 3) := dk_184 0 98 (dk_at dksX4_forbid_0 1 rfl rfl)
theorem dX4_forbid_4 : decode cX4_forbid 4 = .ok (.ifCond .ne 7, 3) := dk_154 0 7 (dk_at dksX4_forbid_0 4 rfl rfl)
theorem dX4_forbid_7 : decode cX4_forbid 7 = .ok (.iconst 1, 1) := dk_4 (dk_at dksX4_forbid_0 7 rfl rfl)
theorem dX4_forbid_8 : decode cX4_forbid 8 = .ok (.goto 32, 3) := dk_167 0 32 (dk_at dksX4_forbid_0 8 rfl rfl)
theorem dX4_forbid_11 : decode cX4_forbid 11 = .ok (.iload_n 2, 1) := dk_28 (dk_at dksX4_forbid_0 11 rfl rfl)
theorem dX4_forbid_12 : decode cX4_forbid 12 = .ok (.i2l, 1) := dk_133 (dk_at dksX4_forbid_0 12 rfl rfl)
theorem dX4_forbid_13 : decode cX4_forbid 13 = .ok (.lconst 0, 1) := dk_9 (dk_at dksX4_forbid_0 13 rfl rfl)
theorem dX4_forbid_14 : decode cX4_forbid 14 = .ok (.ldc2_w 220, 3) := dk_20 0 220 (dk_at dksX4_forbid_0 14 rfl rfl)
theorem dX4_forbid_17 : decode cX4_forbid 17 = .ok (.invokestatic 91, 3) := dk_184 0 91 (dk_at dksX4_forbid_0 17 rfl rfl)
theorem dX4_forbid_20 : decode cX4_forbid 20 = .ok (.ifCond .eq 15, 3) := dk_153 0 15 (dk_at dksX4_forbid_0 20 rfl rfl)
theorem dX4_forbid_23 : decode cX4_forbid 23 = .ok (.iload_n 3, 1) := dk_29 (dk_at dksX4_forbid_0 23 rfl rfl)
theorem dX4_forbid_24 : decode cX4_forbid 24 = .ok (.i2l, 1) := dk_133 (dk_at dksX4_forbid_1 0 rfl rfl)
theorem dX4_forbid_25 : decode cX4_forbid 25 = .ok (.lconst 0, 1) := dk_9 (dk_at dksX4_forbid_1 1 rfl rfl)
theorem dX4_forbid_26 : decode cX4_forbid 26 = .ok (.ldc2_w 222, 3) := dk_20 0 222 (dk_at dksX4_forbid_1 2 rfl rfl)
theorem dX4_forbid_29 : decode cX4_forbid 29 = .ok (.invokestatic 91, 3) := dk_184 0 91 (dk_at dksX4_forbid_1 5 rfl rfl)
theorem dX4_forbid_32 : decode cX4_forbid 32 = .ok (.ifCond .ne 7, 3) := dk_154 0 7 (dk_at dksX4_forbid_1 8 rfl rfl)
theorem dX4_forbid_35 : decode cX4_forbid 35 = .ok (.iconst 2, 1) := dk_5 (dk_at dksX4_forbid_1 11 rfl rfl)
theorem dX4_forbid_36 : decode cX4_forbid 36 = .ok (.goto 4, 3) := dk_167 0 4 (dk_at dksX4_forbid_1 12 rfl rfl)
theorem dX4_forbid_39 : decode cX4_forbid 39 = .ok (.iconst 0, 1) := dk_3 (dk_at dksX4_forbid_1 15 rfl rfl)
theorem dX4_forbid_40 : decode cX4_forbid 40 = .ok (.istore 4, 2) := dk_54 4 (dk_at dksX4_forbid_1 16 rfl rfl)
theorem dX4_forbid_42 : decode cX4_forbid 42 = .ok (.iload 4, 2) := dk_21 4 (dk_at dksX4_forbid_1 18 rfl rfl)
theorem dX4_forbid_44 : decode cX4_forbid 44 = .ok (.ifCond .ne 17, 3) := dk_154 0 17 (dk_at dksX4_forbid_1 20 rfl rfl)
theorem dX4_forbid_47 : decode cX4_forbid 47 = .ok (.aload_n 0, 1) := dk_42 (dk_at dksX4_forbid_1 23 rfl rfl)
theorem dX4_forbid_48 : decode cX4_forbid 48 = .ok (.iload_n 1, 1) := dk_27 (dk_at dksX4_forbid_2 0 rfl rfl)
theorem dX4_forbid_49 : decode cX4_forbid 49 = .ok (.iload_n 2, 1) := dk_28 (dk_at dksX4_forbid_2 1 rfl rfl)
theorem dX4_forbid_50 : decode cX4_forbid 50 = .ok (.iload_n 3, 1) := dk_29 (dk_at dksX4_forbid_2 2 rfl rfl)
theorem dX4_forbid_51 : decode cX4_forbid 51 = .ok (.invokestatic 227, 3) := dk_184 0 227 (dk_at dksX4_forbid_2 3 rfl rfl)
theorem dX4_forbid_54 : decode cX4_forbid 54 = .ok (.iload_n 3, 1) := dk_29 (dk_at dksX4_forbid_2 6 rfl rfl)
theorem dX4_forbid_55 : decode cX4_forbid 55 = .ok (.invokevirtual 230, 3) := dk_182 0 230 (dk_at dksX4_forbid_2 7 rfl rfl)
theorem dX4_forbid_58 : decode cX4_forbid 58 = .ok (.goto 4, 3) := dk_167 0 4 (dk_at dksX4_forbid_2 10 rfl rfl)
theorem dX4_forbid_61 : decode cX4_forbid 61 = .ok (.iconst (-1), 1) := dk_2 (dk_at dksX4_forbid_2 13 rfl rfl)
theorem dX4_forbid_62 : decode cX4_forbid 62 = .ok (.istore 5, 2) := dk_54 5 (dk_at dksX4_forbid_2 14 rfl rfl)
theorem dX4_forbid_64 : decode cX4_forbid 64 = .ok (.aload_n 0, 1) := dk_42 (dk_at dksX4_forbid_2 16 rfl rfl)
theorem dX4_forbid_65 : decode cX4_forbid 65 = .ok (.iload 4, 2) := dk_21 4 (dk_at dksX4_forbid_2 17 rfl rfl)
theorem dX4_forbid_67 : decode cX4_forbid 67 = .ok (.ifCond .ne 13, 3) := dk_154 0 13 (dk_at dksX4_forbid_2 19 rfl rfl)
theorem dX4_forbid_70 : decode cX4_forbid 70 = .ok (.iload 5, 2) := dk_21 5 (dk_at dksX4_forbid_2 22 rfl rfl)
theorem dX4_forbid_72 : decode cX4_forbid 72 = .ok (.iconst (-1), 1) := dk_2 (dk_at dksX4_forbid_3 0 rfl rfl)
theorem dX4_forbid_73 : decode cX4_forbid 73 = .ok (.if_icmp .ne 7, 3) := dk_160 0 7 (dk_at dksX4_forbid_3 1 rfl rfl)
theorem dX4_forbid_76 : decode cX4_forbid 76 = .ok (.iconst 3, 1) := dk_6 (dk_at dksX4_forbid_3 4 rfl rfl)
theorem dX4_forbid_77 : decode cX4_forbid 77 = .ok (.goto 5, 3) := dk_167 0 5 (dk_at dksX4_forbid_3 5 rfl rfl)
theorem dX4_forbid_80 : decode cX4_forbid 80 = .ok (.iload 4, 2) := dk_21 4 (dk_at dksX4_forbid_3 8 rfl rfl)
theorem dX4_forbid_82 : decode cX4_forbid 82 = .ok (.invokevirtual 215, 3) := dk_182 0 215 (dk_at dksX4_forbid_3 10 rfl rfl)
theorem dX4_forbid_85 : decode cX4_forbid 85 = .ok (.ifCond .eq 5, 3) := dk_153 0 5 (dk_at dksX4_forbid_3 13 rfl rfl)
theorem dX4_forbid_88 : decode cX4_forbid 88 = .ok (.iconst 0, 1) := dk_3 (dk_at dksX4_forbid_3 16 rfl rfl)
theorem dX4_forbid_89 : decode cX4_forbid 89 = .ok (.ireturn, 1) := dk_172 (dk_at dksX4_forbid_3 17 rfl rfl)
theorem dX4_forbid_90 : decode cX4_forbid 90 = .ok (.iload 5, 2) := dk_21 5 (dk_at dksX4_forbid_3 18 rfl rfl)
theorem dX4_forbid_92 : decode cX4_forbid 92 = .ok (.istore 6, 2) := dk_54 6 (dk_at dksX4_forbid_3 20 rfl rfl)
theorem dX4_forbid_94 : decode cX4_forbid 94 = .ok (.iload 6, 2) := dk_21 6 (dk_at dksX4_forbid_3 22 rfl rfl)
theorem dX4_forbid_96 : decode cX4_forbid 96 = .ok (.aload_n 0, 1) := dk_42 (dk_at dksX4_forbid_4 0 rfl rfl)
theorem dX4_forbid_97 : decode cX4_forbid 97 = .ok (.getfield 17, 3) := dk_180 0 17 (dk_at dksX4_forbid_4 1 rfl rfl)
theorem dX4_forbid_100 : decode cX4_forbid 100 = .ok (.iload_n 1, 1) := dk_27 (dk_at dksX4_forbid_4 4 rfl rfl)
theorem dX4_forbid_101 : decode cX4_forbid 101 = .ok (.iaload, 1) := dk_46 (dk_at dksX4_forbid_4 5 rfl rfl)
theorem dX4_forbid_102 : decode cX4_forbid 102 = .ok (.iconst 1, 1) := dk_4 (dk_at dksX4_forbid_4 6 rfl rfl)
theorem dX4_forbid_103 : decode cX4_forbid 103 = .ok (.isub, 1) := dk_100 (dk_at dksX4_forbid_4 7 rfl rfl)
theorem dX4_forbid_104 : decode cX4_forbid 104 = .ok (.if_icmp .ge 29, 3) := dk_162 0 29 (dk_at dksX4_forbid_4 8 rfl rfl)
theorem dX4_forbid_107 : decode cX4_forbid 107 = .ok (.aload_n 0, 1) := dk_42 (dk_at dksX4_forbid_4 11 rfl rfl)
theorem dX4_forbid_108 : decode cX4_forbid 108 = .ok (.getfield 32, 3) := dk_180 0 32 (dk_at dksX4_forbid_4 12 rfl rfl)
theorem dX4_forbid_111 : decode cX4_forbid 111 = .ok (.iload_n 1, 1) := dk_27 (dk_at dksX4_forbid_4 15 rfl rfl)
theorem dX4_forbid_112 : decode cX4_forbid 112 = .ok (.aaload, 1) := dk_50 (dk_at dksX4_forbid_4 16 rfl rfl)
theorem dX4_forbid_113 : decode cX4_forbid 113 = .ok (.iload 6, 2) := dk_21 6 (dk_at dksX4_forbid_4 17 rfl rfl)
theorem dX4_forbid_115 : decode cX4_forbid 115 = .ok (.aload_n 0, 1) := dk_42 (dk_at dksX4_forbid_4 19 rfl rfl)
theorem dX4_forbid_116 : decode cX4_forbid 116 = .ok (.getfield 32, 3) := dk_180 0 32 (dk_at dksX4_forbid_4 20 rfl rfl)
theorem dX4_forbid_119 : decode cX4_forbid 119 = .ok (.iload_n 1, 1) := dk_27 (dk_at dksX4_forbid_4 23 rfl rfl)
theorem dX4_forbid_120 : decode cX4_forbid 120 = .ok (.aaload, 1) := dk_50 (dk_at dksX4_forbid_5 0 rfl rfl)
theorem dX4_forbid_121 : decode cX4_forbid 121 = .ok (.iload 6, 2) := dk_21 6 (dk_at dksX4_forbid_5 1 rfl rfl)
theorem dX4_forbid_123 : decode cX4_forbid 123 = .ok (.iconst 1, 1) := dk_4 (dk_at dksX4_forbid_5 3 rfl rfl)
theorem dX4_forbid_124 : decode cX4_forbid 124 = .ok (.iadd, 1) := dk_96 (dk_at dksX4_forbid_5 4 rfl rfl)
theorem dX4_forbid_125 : decode cX4_forbid 125 = .ok (.aaload, 1) := dk_50 (dk_at dksX4_forbid_5 5 rfl rfl)
theorem dX4_forbid_126 : decode cX4_forbid 126 = .ok (.aastore, 1) := dk_83 (dk_at dksX4_forbid_5 6 rfl rfl)
theorem dX4_forbid_127 : decode cX4_forbid 127 = .ok (.iinc 6 1, 3) := dk_132 6 1 (dk_at dksX4_forbid_5 7 rfl rfl)
theorem dX4_forbid_130 : decode cX4_forbid 130 = .ok (.goto (-36), 3) := dk_167 255 220 (dk_at dksX4_forbid_5 10 rfl rfl)
theorem dX4_forbid_133 : decode cX4_forbid 133 = .ok (.aload_n 0, 1) := dk_42 (dk_at dksX4_forbid_5 13 rfl rfl)
theorem dX4_forbid_134 : decode cX4_forbid 134 = .ok (.getfield 17, 3) := dk_180 0 17 (dk_at dksX4_forbid_5 14 rfl rfl)
theorem dX4_forbid_137 : decode cX4_forbid 137 = .ok (.iload_n 1, 1) := dk_27 (dk_at dksX4_forbid_5 17 rfl rfl)
theorem dX4_forbid_138 : decode cX4_forbid 138 = .ok (.dup2, 1) := dk_92 (dk_at dksX4_forbid_5 18 rfl rfl)
theorem dX4_forbid_139 : decode cX4_forbid 139 = .ok (.iaload, 1) := dk_46 (dk_at dksX4_forbid_5 19 rfl rfl)
theorem dX4_forbid_140 : decode cX4_forbid 140 = .ok (.iconst 1, 1) := dk_4 (dk_at dksX4_forbid_5 20 rfl rfl)
theorem dX4_forbid_141 : decode cX4_forbid 141 = .ok (.isub, 1) := dk_100 (dk_at dksX4_forbid_5 21 rfl rfl)
theorem dX4_forbid_142 : decode cX4_forbid 142 = .ok (.dup_x2, 1) := dk_91 (dk_at dksX4_forbid_5 22 rfl rfl)
theorem dX4_forbid_143 : decode cX4_forbid 143 = .ok (.iastore, 1) := dk_79 (dk_at dksX4_forbid_5 23 rfl rfl)
theorem dX4_forbid_144 : decode cX4_forbid 144 = .ok (.ireturn, 1) := dk_172 (dk_at dksX4_forbid_6 0 rfl rfl)
abbrev cX4_send : ByteArray := prog_8_method_45_code
def yX4_send : MethodName := ⟨RX4, "send", "(IIII)I"⟩
def dkwX4_send_12 : List UInt8 := [83, 42, 27, 21, 6, 182, 0, 235, 154, 0, 11, 42, 27, 21, 6, 182, 0, 238, 87, 3, 172]
abbrev dktX4_send_12 : List UInt8 := dkwX4_send_12 ++ []
def dkwX4_send_11 : List UInt8 := [21, 6, 92, 46, 91, 4, 96, 79, 6, 188, 10, 89, 3, 28, 79, 89, 4, 29, 79, 89, 5, 21, 4, 79]
abbrev dktX4_send_11 : List UInt8 := dkwX4_send_11 ++ dktX4_send_12
def dkwX4_send_10 : List UInt8 := [27, 50, 21, 6, 92, 46, 4, 100, 79, 42, 180, 0, 69, 27, 50, 21, 6, 50, 42, 180, 0, 64, 27, 50]
abbrev dktX4_send_10 : List UInt8 := dkwX4_send_10 ++ dktX4_send_11
def dkwX4_send_9 : List UInt8 := [180, 0, 69, 27, 50, 21, 6, 50, 21, 7, 4, 96, 50, 83, 132, 7, 1, 167, 255, 221, 42, 180, 0, 64]
abbrev dktX4_send_9 : List UInt8 := dkwX4_send_9 ++ dktX4_send_10
def dkwX4_send_8 : List UInt8 := [160, 0, 57, 3, 54, 7, 21, 7, 6, 162, 0, 35, 42, 180, 0, 69, 27, 50, 21, 6, 50, 21, 7, 42]
abbrev dktX4_send_8 : List UInt8 := dkwX4_send_8 ++ dktX4_send_9
def dkwX4_send_7 : List UInt8 := [154, 0, 11, 42, 27, 21, 6, 182, 0, 238, 87, 4, 172, 42, 180, 0, 64, 27, 50, 21, 6, 46, 7]
abbrev dktX4_send_7 : List UInt8 := dkwX4_send_7 ++ dktX4_send_8
def dkwX4_send_6 : List UInt8 := [182, 0, 170, 16, 20, 162, 0, 12, 25, 7, 8, 46, 16, 30, 161, 0, 21, 42, 27, 21, 6, 182, 0, 235]
abbrev dktX4_send_6 : List UInt8 := dkwX4_send_6 ++ dktX4_send_7
def dkwX4_send_5 : List UInt8 := [50, 21, 6, 50, 4, 50, 58, 7, 25, 7, 16, 6, 46, 4, 160, 0, 43, 42, 27, 21, 6, 4]
abbrev dktX4_send_5 : List UInt8 := dkwX4_send_5 ++ dktX4_send_6
def dkwX4_send_4 : List UInt8 := [21, 6, 182, 0, 173, 153, 0, 78, 42, 27, 21, 6, 28, 29, 21, 4, 182, 0, 176, 42, 180, 0, 72, 27]
abbrev dktX4_send_4 : List UInt8 := dkwX4_send_4 ++ dktX4_send_5
def dkwX4_send_3 : List UInt8 := [153, 0, 5, 3, 172, 42, 27, 29, 182, 0, 196, 54, 6, 21, 6, 2, 160, 0, 5, 2, 172, 42, 27]
abbrev dktX4_send_3 : List UInt8 := dkwX4_send_3 ++ dktX4_send_4
def dkwX4_send_2 : List UInt8 := [184, 0, 98, 154, 0, 7, 4, 167, 0, 13, 21, 5, 154, 0, 7, 5, 167, 0, 4, 3, 182, 0, 215]
abbrev dktX4_send_2 : List UInt8 := dkwX4_send_2 ++ dktX4_send_3
def dkwX4_send_1 : List UInt8 := [21, 4, 133, 9, 20, 0, 233, 184, 0, 91, 153, 0, 7, 4, 167, 0, 4, 3, 54, 5, 42, 27]
abbrev dktX4_send_1 : List UInt8 := dkwX4_send_1 ++ dktX4_send_2
def dkwX4_send_0 : List UInt8 := [28, 133, 9, 20, 0, 220, 184, 0, 91, 153, 0, 32, 29, 133, 9, 20, 0, 220, 184, 0, 91, 153, 0, 20]
abbrev dktX4_send_0 : List UInt8 := dkwX4_send_0 ++ dktX4_send_1
theorem dksX4_send_0 : cX4_send.data.toList.drop 0 = dktX4_send_0 := by decide +kernel
theorem dksX4_send_1 : cX4_send.data.toList.drop 24 = dktX4_send_1 := dk_seg dksX4_send_0 24 rfl rfl
theorem dksX4_send_2 : cX4_send.data.toList.drop 46 = dktX4_send_2 := dk_seg dksX4_send_1 22 rfl rfl
theorem dksX4_send_3 : cX4_send.data.toList.drop 69 = dktX4_send_3 := dk_seg dksX4_send_2 23 rfl rfl
theorem dksX4_send_4 : cX4_send.data.toList.drop 92 = dktX4_send_4 := dk_seg dksX4_send_3 23 rfl rfl
theorem dksX4_send_5 : cX4_send.data.toList.drop 116 = dktX4_send_5 := dk_seg dksX4_send_4 24 rfl rfl
theorem dksX4_send_6 : cX4_send.data.toList.drop 138 = dktX4_send_6 := dk_seg dksX4_send_5 22 rfl rfl
theorem dksX4_send_7 : cX4_send.data.toList.drop 162 = dktX4_send_7 := dk_seg dksX4_send_6 24 rfl rfl
theorem dksX4_send_8 : cX4_send.data.toList.drop 185 = dktX4_send_8 := dk_seg dksX4_send_7 23 rfl rfl
theorem dksX4_send_9 : cX4_send.data.toList.drop 209 = dktX4_send_9 := dk_seg dksX4_send_8 24 rfl rfl
theorem dksX4_send_10 : cX4_send.data.toList.drop 233 = dktX4_send_10 := dk_seg dksX4_send_9 24 rfl rfl
theorem dksX4_send_11 : cX4_send.data.toList.drop 257 = dktX4_send_11 := dk_seg dksX4_send_10 24 rfl rfl
theorem dksX4_send_12 : cX4_send.data.toList.drop 281 = dktX4_send_12 := dk_seg dksX4_send_11 24 rfl rfl
theorem dX4_send_0 : decode cX4_send 0 = .ok (.iload_n 2, 1) := dk_28 (dk_at dksX4_send_0 0 rfl rfl)
theorem dX4_send_1 : decode cX4_send 1 = .ok (.i2l, 1) := dk_133 (dk_at dksX4_send_0 1 rfl rfl)
theorem dX4_send_2 : decode cX4_send 2 = .ok (.lconst 0, 1) := dk_9 (dk_at dksX4_send_0 2 rfl rfl)
theorem dX4_send_3 : decode cX4_send 3 = .ok (.ldc2_w 220, 3) := dk_20 0 220 (dk_at dksX4_send_0 3 rfl rfl)
theorem dX4_send_6 : decode cX4_send 6 = .ok (.invokestatic 91, 3) := dk_184 0 91 (dk_at dksX4_send_0 6 rfl rfl)
theorem dX4_send_9 : decode cX4_send 9 = .ok (.ifCond .eq 32, 3) := dk_153 0 32 (dk_at dksX4_send_0 9 rfl rfl)
theorem dX4_send_12 : decode cX4_send 12 = .ok (.iload_n 3, 1) := dk_29 (dk_at dksX4_send_0 12 rfl rfl)
theorem dX4_send_13 : decode cX4_send 13 = .ok (.i2l, 1) := dk_133 (dk_at dksX4_send_0 13 rfl rfl)
theorem dX4_send_14 : decode cX4_send 14 = .ok (.lconst 0, 1) := dk_9 (dk_at dksX4_send_0 14 rfl rfl)
theorem dX4_send_15 : decode cX4_send 15 = .ok (.ldc2_w 220, 3) := dk_20 0 220 (dk_at dksX4_send_0 15 rfl rfl)
theorem dX4_send_18 : decode cX4_send 18 = .ok (.invokestatic 91, 3) := dk_184 0 91 (dk_at dksX4_send_0 18 rfl rfl)
theorem dX4_send_21 : decode cX4_send 21 = .ok (.ifCond .eq 20, 3) := dk_153 0 20 (dk_at dksX4_send_0 21 rfl rfl)
theorem dX4_send_24 : decode cX4_send 24 = .ok (.iload 4, 2) := dk_21 4 (dk_at dksX4_send_1 0 rfl rfl)
theorem dX4_send_26 : decode cX4_send 26 = .ok (.i2l, 1) := dk_133 (dk_at dksX4_send_1 2 rfl rfl)
theorem dX4_send_27 : decode cX4_send 27 = .ok (.lconst 0, 1) := dk_9 (dk_at dksX4_send_1 3 rfl rfl)
theorem dX4_send_28 : decode cX4_send 28 = .ok (.ldc2_w 233, 3) := dk_20 0 233 (dk_at dksX4_send_1 4 rfl rfl)
theorem dX4_send_31 : decode cX4_send 31 = .ok (.invokestatic 91, 3) := dk_184 0 91 (dk_at dksX4_send_1 7 rfl rfl)
theorem dX4_send_34 : decode cX4_send 34 = .ok (.ifCond .eq 7, 3) := dk_153 0 7 (dk_at dksX4_send_1 10 rfl rfl)
theorem dX4_send_37 : decode cX4_send 37 = .ok (.iconst 1, 1) := dk_4 (dk_at dksX4_send_1 13 rfl rfl)
theorem dX4_send_38 : decode cX4_send 38 = .ok (.goto 4, 3) := dk_167 0 4 (dk_at dksX4_send_1 14 rfl rfl)
theorem dX4_send_41 : decode cX4_send 41 = .ok (.iconst 0, 1) := dk_3 (dk_at dksX4_send_1 17 rfl rfl)
theorem dX4_send_42 : decode cX4_send 42 = .ok (.istore 5, 2) := dk_54 5 (dk_at dksX4_send_1 18 rfl rfl)
theorem dX4_send_44 : decode cX4_send 44 = .ok (.aload_n 0, 1) := dk_42 (dk_at dksX4_send_1 20 rfl rfl)
theorem dX4_send_45 : decode cX4_send 45 = .ok (.iload_n 1, 1) := dk_27 (dk_at dksX4_send_1 21 rfl rfl)
theorem dX4_send_46 : decode cX4_send 46 = .ok (.invokestatic 98, 3) := dk_184 0 98 (dk_at dksX4_send_2 0 rfl rfl)
theorem dX4_send_49 : decode cX4_send 49 = .ok (.ifCond .ne 7, 3) := dk_154 0 7 (dk_at dksX4_send_2 3 rfl rfl)
theorem dX4_send_52 : decode cX4_send 52 = .ok (.iconst 1, 1) := dk_4 (dk_at dksX4_send_2 6 rfl rfl)
theorem dX4_send_53 : decode cX4_send 53 = .ok (.goto 13, 3) := dk_167 0 13 (dk_at dksX4_send_2 7 rfl rfl)
theorem dX4_send_56 : decode cX4_send 56 = .ok (.iload 5, 2) := dk_21 5 (dk_at dksX4_send_2 10 rfl rfl)
theorem dX4_send_58 : decode cX4_send 58 = .ok (.ifCond .ne 7, 3) := dk_154 0 7 (dk_at dksX4_send_2 12 rfl rfl)
theorem dX4_send_61 : decode cX4_send 61 = .ok (.iconst 2, 1) := dk_5 (dk_at dksX4_send_2 15 rfl rfl)
theorem dX4_send_62 : decode cX4_send 62 = .ok (.goto 4, 3) := dk_167 0 4 (dk_at dksX4_send_2 16 rfl rfl)
theorem dX4_send_65 : decode cX4_send 65 = .ok (.iconst 0, 1) := dk_3 (dk_at dksX4_send_2 19 rfl rfl)
theorem dX4_send_66 : decode cX4_send 66 = .ok (.invokevirtual 215, 3) := dk_182 0 215 (dk_at dksX4_send_2 20 rfl rfl)
theorem dX4_send_69 : decode cX4_send 69 = .ok (.ifCond .eq 5, 3) := dk_153 0 5 (dk_at dksX4_send_3 0 rfl rfl)
theorem dX4_send_72 : decode cX4_send 72 = .ok (.iconst 0, 1) := dk_3 (dk_at dksX4_send_3 3 rfl rfl)
theorem dX4_send_73 : decode cX4_send 73 = .ok (.ireturn, 1) := dk_172 (dk_at dksX4_send_3 4 rfl rfl)
theorem dX4_send_74 : decode cX4_send 74 = .ok (.aload_n 0, 1) := dk_42 (dk_at dksX4_send_3 5 rfl rfl)
theorem dX4_send_75 : decode cX4_send 75 = .ok (.iload_n 1, 1) := dk_27 (dk_at dksX4_send_3 6 rfl rfl)
theorem dX4_send_76 : decode cX4_send 76 = .ok (.iload_n 3, 1) := dk_29 (dk_at dksX4_send_3 7 rfl rfl)
theorem dX4_send_77 : decode cX4_send 77 = .ok (.invokevirtual 196, 3) := dk_182 0 196 (dk_at dksX4_send_3 8 rfl rfl)
theorem dX4_send_80 : decode cX4_send 80 = .ok (.istore 6, 2) := dk_54 6 (dk_at dksX4_send_3 11 rfl rfl)
theorem dX4_send_82 : decode cX4_send 82 = .ok (.iload 6, 2) := dk_21 6 (dk_at dksX4_send_3 13 rfl rfl)
theorem dX4_send_84 : decode cX4_send 84 = .ok (.iconst (-1), 1) := dk_2 (dk_at dksX4_send_3 15 rfl rfl)
theorem dX4_send_85 : decode cX4_send 85 = .ok (.if_icmp .ne 5, 3) := dk_160 0 5 (dk_at dksX4_send_3 16 rfl rfl)
theorem dX4_send_88 : decode cX4_send 88 = .ok (.iconst (-1), 1) := dk_2 (dk_at dksX4_send_3 19 rfl rfl)
theorem dX4_send_89 : decode cX4_send 89 = .ok (.ireturn, 1) := dk_172 (dk_at dksX4_send_3 20 rfl rfl)
theorem dX4_send_90 : decode cX4_send 90 = .ok (.aload_n 0, 1) := dk_42 (dk_at dksX4_send_3 21 rfl rfl)
theorem dX4_send_91 : decode cX4_send 91 = .ok (.iload_n 1, 1) := dk_27 (dk_at dksX4_send_3 22 rfl rfl)
theorem dX4_send_92 : decode cX4_send 92 = .ok (.iload 6, 2) := dk_21 6 (dk_at dksX4_send_4 0 rfl rfl)
theorem dX4_send_94 : decode cX4_send 94 = .ok (.invokevirtual 173, 3) := dk_182 0 173 (dk_at dksX4_send_4 2 rfl rfl)
theorem dX4_send_97 : decode cX4_send 97 = .ok (.ifCond .eq 78, 3) := dk_153 0 78 (dk_at dksX4_send_4 5 rfl rfl)
theorem dX4_send_100 : decode cX4_send 100 = .ok (.aload_n 0, 1) := dk_42 (dk_at dksX4_send_4 8 rfl rfl)
theorem dX4_send_101 : decode cX4_send 101 = .ok (.iload_n 1, 1) := dk_27 (dk_at dksX4_send_4 9 rfl rfl)
theorem dX4_send_102 : decode cX4_send 102 = .ok (.iload 6, 2) := dk_21 6 (dk_at dksX4_send_4 10 rfl rfl)
theorem dX4_send_104 : decode cX4_send 104 = .ok (.iload_n 2, 1) := dk_28 (dk_at dksX4_send_4 12 rfl rfl)
theorem dX4_send_105 : decode cX4_send 105 = .ok (.iload_n 3, 1) := dk_29 (dk_at dksX4_send_4 13 rfl rfl)
theorem dX4_send_106 : decode cX4_send 106 = .ok (.iload 4, 2) := dk_21 4 (dk_at dksX4_send_4 14 rfl rfl)
theorem dX4_send_108 : decode cX4_send 108 = .ok (.invokevirtual 176, 3) := dk_182 0 176 (dk_at dksX4_send_4 16 rfl rfl)
theorem dX4_send_111 : decode cX4_send 111 = .ok (.aload_n 0, 1) := dk_42 (dk_at dksX4_send_4 19 rfl rfl)
theorem dX4_send_112 : decode cX4_send 112 = .ok (.getfield 72, 3) := dk_180 0 72 (dk_at dksX4_send_4 20 rfl rfl)
theorem dX4_send_115 : decode cX4_send 115 = .ok (.iload_n 1, 1) := dk_27 (dk_at dksX4_send_4 23 rfl rfl)
theorem dX4_send_116 : decode cX4_send 116 = .ok (.aaload, 1) := dk_50 (dk_at dksX4_send_5 0 rfl rfl)
theorem dX4_send_117 : decode cX4_send 117 = .ok (.iload 6, 2) := dk_21 6 (dk_at dksX4_send_5 1 rfl rfl)
theorem dX4_send_119 : decode cX4_send 119 = .ok (.aaload, 1) := dk_50 (dk_at dksX4_send_5 3 rfl rfl)
theorem dX4_send_120 : decode cX4_send 120 = .ok (.iconst 1, 1) := dk_4 (dk_at dksX4_send_5 4 rfl rfl)
theorem dX4_send_121 : decode cX4_send 121 = .ok (.aaload, 1) := dk_50 (dk_at dksX4_send_5 5 rfl rfl)
theorem dX4_send_122 : decode cX4_send 122 = .ok (.astore 7, 2) := dk_58 7 (dk_at dksX4_send_5 6 rfl rfl)
theorem dX4_send_124 : decode cX4_send 124 = .ok (.aload 7, 2) := dk_25 7 (dk_at dksX4_send_5 8 rfl rfl)
theorem dX4_send_126 : decode cX4_send 126 = .ok (.bipush 6, 2) := dk_16 6 (dk_at dksX4_send_5 10 rfl rfl)
theorem dX4_send_128 : decode cX4_send 128 = .ok (.iaload, 1) := dk_46 (dk_at dksX4_send_5 12 rfl rfl)
theorem dX4_send_129 : decode cX4_send 129 = .ok (.iconst 1, 1) := dk_4 (dk_at dksX4_send_5 13 rfl rfl)
theorem dX4_send_130 : decode cX4_send 130 = .ok (.if_icmp .ne 43, 3) := dk_160 0 43 (dk_at dksX4_send_5 14 rfl rfl)
theorem dX4_send_133 : decode cX4_send 133 = .ok (.aload_n 0, 1) := dk_42 (dk_at dksX4_send_5 17 rfl rfl)
theorem dX4_send_134 : decode cX4_send 134 = .ok (.iload_n 1, 1) := dk_27 (dk_at dksX4_send_5 18 rfl rfl)
theorem dX4_send_135 : decode cX4_send 135 = .ok (.iload 6, 2) := dk_21 6 (dk_at dksX4_send_5 19 rfl rfl)
theorem dX4_send_137 : decode cX4_send 137 = .ok (.iconst 1, 1) := dk_4 (dk_at dksX4_send_5 21 rfl rfl)
theorem dX4_send_138 : decode cX4_send 138 = .ok (.invokevirtual 170, 3) := dk_182 0 170 (dk_at dksX4_send_6 0 rfl rfl)
theorem dX4_send_141 : decode cX4_send 141 = .ok (.bipush 20, 2) := dk_16 20 (dk_at dksX4_send_6 3 rfl rfl)
theorem dX4_send_143 : decode cX4_send 143 = .ok (.if_icmp .ge 12, 3) := dk_162 0 12 (dk_at dksX4_send_6 5 rfl rfl)
theorem dX4_send_146 : decode cX4_send 146 = .ok (.aload 7, 2) := dk_25 7 (dk_at dksX4_send_6 8 rfl rfl)
theorem dX4_send_148 : decode cX4_send 148 = .ok (.iconst 5, 1) := dk_8 (dk_at dksX4_send_6 10 rfl rfl)
theorem dX4_send_149 : decode cX4_send 149 = .ok (.iaload, 1) := dk_46 (dk_at dksX4_send_6 11 rfl rfl)
theorem dX4_send_150 : decode cX4_send 150 = .ok (.bipush 30, 2) := dk_16 30 (dk_at dksX4_send_6 12 rfl rfl)
theorem dX4_send_152 : decode cX4_send 152 = .ok (.if_icmp .lt 21, 3) := dk_161 0 21 (dk_at dksX4_send_6 14 rfl rfl)
theorem dX4_send_155 : decode cX4_send 155 = .ok (.aload_n 0, 1) := dk_42 (dk_at dksX4_send_6 17 rfl rfl)
theorem dX4_send_156 : decode cX4_send 156 = .ok (.iload_n 1, 1) := dk_27 (dk_at dksX4_send_6 18 rfl rfl)
theorem dX4_send_157 : decode cX4_send 157 = .ok (.iload 6, 2) := dk_21 6 (dk_at dksX4_send_6 19 rfl rfl)
theorem dX4_send_159 : decode cX4_send 159 = .ok (.invokevirtual 235, 3) := dk_182 0 235 (dk_at dksX4_send_6 21 rfl rfl)
theorem dX4_send_162 : decode cX4_send 162 = .ok (.ifCond .ne 11, 3) := dk_154 0 11 (dk_at dksX4_send_7 0 rfl rfl)
theorem dX4_send_165 : decode cX4_send 165 = .ok (.aload_n 0, 1) := dk_42 (dk_at dksX4_send_7 3 rfl rfl)
theorem dX4_send_166 : decode cX4_send 166 = .ok (.iload_n 1, 1) := dk_27 (dk_at dksX4_send_7 4 rfl rfl)
theorem dX4_send_167 : decode cX4_send 167 = .ok (.iload 6, 2) := dk_21 6 (dk_at dksX4_send_7 5 rfl rfl)
theorem dX4_send_169 : decode cX4_send 169 = .ok (.invokevirtual 238, 3) := dk_182 0 238 (dk_at dksX4_send_7 7 rfl rfl)
theorem dX4_send_172 : decode cX4_send 172 = .ok (.pop, 1) := dk_87 (dk_at dksX4_send_7 10 rfl rfl)
theorem dX4_send_173 : decode cX4_send 173 = .ok (.iconst 1, 1) := dk_4 (dk_at dksX4_send_7 11 rfl rfl)
theorem dX4_send_174 : decode cX4_send 174 = .ok (.ireturn, 1) := dk_172 (dk_at dksX4_send_7 12 rfl rfl)
theorem dX4_send_175 : decode cX4_send 175 = .ok (.aload_n 0, 1) := dk_42 (dk_at dksX4_send_7 13 rfl rfl)
theorem dX4_send_176 : decode cX4_send 176 = .ok (.getfield 64, 3) := dk_180 0 64 (dk_at dksX4_send_7 14 rfl rfl)
theorem dX4_send_179 : decode cX4_send 179 = .ok (.iload_n 1, 1) := dk_27 (dk_at dksX4_send_7 17 rfl rfl)
theorem dX4_send_180 : decode cX4_send 180 = .ok (.aaload, 1) := dk_50 (dk_at dksX4_send_7 18 rfl rfl)
theorem dX4_send_181 : decode cX4_send 181 = .ok (.iload 6, 2) := dk_21 6 (dk_at dksX4_send_7 19 rfl rfl)
theorem dX4_send_183 : decode cX4_send 183 = .ok (.iaload, 1) := dk_46 (dk_at dksX4_send_7 21 rfl rfl)
theorem dX4_send_184 : decode cX4_send 184 = .ok (.iconst 4, 1) := dk_7 (dk_at dksX4_send_7 22 rfl rfl)
theorem dX4_send_185 : decode cX4_send 185 = .ok (.if_icmp .ne 57, 3) := dk_160 0 57 (dk_at dksX4_send_8 0 rfl rfl)
theorem dX4_send_188 : decode cX4_send 188 = .ok (.iconst 0, 1) := dk_3 (dk_at dksX4_send_8 3 rfl rfl)
theorem dX4_send_189 : decode cX4_send 189 = .ok (.istore 7, 2) := dk_54 7 (dk_at dksX4_send_8 4 rfl rfl)
theorem dX4_send_191 : decode cX4_send 191 = .ok (.iload 7, 2) := dk_21 7 (dk_at dksX4_send_8 6 rfl rfl)
theorem dX4_send_193 : decode cX4_send 193 = .ok (.iconst 3, 1) := dk_6 (dk_at dksX4_send_8 8 rfl rfl)
theorem dX4_send_194 : decode cX4_send 194 = .ok (.if_icmp .ge 35, 3) := dk_162 0 35 (dk_at dksX4_send_8 9 rfl rfl)
theorem dX4_send_197 : decode cX4_send 197 = .ok (.aload_n 0, 1) := dk_42 (dk_at dksX4_send_8 12 rfl rfl)
theorem dX4_send_198 : decode cX4_send 198 = .ok (.getfield 69, 3) := dk_180 0 69 (dk_at dksX4_send_8 13 rfl rfl)
theorem dX4_send_201 : decode cX4_send 201 = .ok (.iload_n 1, 1) := dk_27 (dk_at dksX4_send_8 16 rfl rfl)
theorem dX4_send_202 : decode cX4_send 202 = .ok (.aaload, 1) := dk_50 (dk_at dksX4_send_8 17 rfl rfl)
theorem dX4_send_203 : decode cX4_send 203 = .ok (.iload 6, 2) := dk_21 6 (dk_at dksX4_send_8 18 rfl rfl)
theorem dX4_send_205 : decode cX4_send 205 = .ok (.aaload, 1) := dk_50 (dk_at dksX4_send_8 20 rfl rfl)
theorem dX4_send_206 : decode cX4_send 206 = .ok (.iload 7, 2) := dk_21 7 (dk_at dksX4_send_8 21 rfl rfl)
theorem dX4_send_208 : decode cX4_send 208 = .ok (.aload_n 0, 1) := dk_42 (dk_at dksX4_send_8 23 rfl rfl)
theorem dX4_send_209 : decode cX4_send 209 = .ok (.getfield 69, 3) := dk_180 0 69 (dk_at dksX4_send_9 0 rfl rfl)
theorem dX4_send_212 : decode cX4_send 212 = .ok (.iload_n 1, 1) := dk_27 (dk_at dksX4_send_9 3 rfl rfl)
theorem dX4_send_213 : decode cX4_send 213 = .ok (.aaload, 1) := dk_50 (dk_at dksX4_send_9 4 rfl rfl)
theorem dX4_send_214 : decode cX4_send 214 = .ok (.iload 6, 2) := dk_21 6 (dk_at dksX4_send_9 5 rfl rfl)
theorem dX4_send_216 : decode cX4_send 216 = .ok (.aaload, 1) := dk_50 (dk_at dksX4_send_9 7 rfl rfl)
theorem dX4_send_217 : decode cX4_send 217 = .ok (.iload 7, 2) := dk_21 7 (dk_at dksX4_send_9 8 rfl rfl)
theorem dX4_send_219 : decode cX4_send 219 = .ok (.iconst 1, 1) := dk_4 (dk_at dksX4_send_9 10 rfl rfl)
theorem dX4_send_220 : decode cX4_send 220 = .ok (.iadd, 1) := dk_96 (dk_at dksX4_send_9 11 rfl rfl)
theorem dX4_send_221 : decode cX4_send 221 = .ok (.aaload, 1) := dk_50 (dk_at dksX4_send_9 12 rfl rfl)
theorem dX4_send_222 : decode cX4_send 222 = .ok (.aastore, 1) := dk_83 (dk_at dksX4_send_9 13 rfl rfl)
theorem dX4_send_223 : decode cX4_send 223 = .ok (.iinc 7 1, 3) := dk_132 7 1 (dk_at dksX4_send_9 14 rfl rfl)
theorem dX4_send_226 : decode cX4_send 226 = .ok (.goto (-35), 3) := dk_167 255 221 (dk_at dksX4_send_9 17 rfl rfl)
theorem dX4_send_229 : decode cX4_send 229 = .ok (.aload_n 0, 1) := dk_42 (dk_at dksX4_send_9 20 rfl rfl)
theorem dX4_send_230 : decode cX4_send 230 = .ok (.getfield 64, 3) := dk_180 0 64 (dk_at dksX4_send_9 21 rfl rfl)
theorem dX4_send_233 : decode cX4_send 233 = .ok (.iload_n 1, 1) := dk_27 (dk_at dksX4_send_10 0 rfl rfl)
theorem dX4_send_234 : decode cX4_send 234 = .ok (.aaload, 1) := dk_50 (dk_at dksX4_send_10 1 rfl rfl)
theorem dX4_send_235 : decode cX4_send 235 = .ok (.iload 6, 2) := dk_21 6 (dk_at dksX4_send_10 2 rfl rfl)
theorem dX4_send_237 : decode cX4_send 237 = .ok (.dup2, 1) := dk_92 (dk_at dksX4_send_10 4 rfl rfl)
theorem dX4_send_238 : decode cX4_send 238 = .ok (.iaload, 1) := dk_46 (dk_at dksX4_send_10 5 rfl rfl)
theorem dX4_send_239 : decode cX4_send 239 = .ok (.iconst 1, 1) := dk_4 (dk_at dksX4_send_10 6 rfl rfl)
theorem dX4_send_240 : decode cX4_send 240 = .ok (.isub, 1) := dk_100 (dk_at dksX4_send_10 7 rfl rfl)
theorem dX4_send_241 : decode cX4_send 241 = .ok (.iastore, 1) := dk_79 (dk_at dksX4_send_10 8 rfl rfl)
theorem dX4_send_242 : decode cX4_send 242 = .ok (.aload_n 0, 1) := dk_42 (dk_at dksX4_send_10 9 rfl rfl)
theorem dX4_send_243 : decode cX4_send 243 = .ok (.getfield 69, 3) := dk_180 0 69 (dk_at dksX4_send_10 10 rfl rfl)
theorem dX4_send_246 : decode cX4_send 246 = .ok (.iload_n 1, 1) := dk_27 (dk_at dksX4_send_10 13 rfl rfl)
theorem dX4_send_247 : decode cX4_send 247 = .ok (.aaload, 1) := dk_50 (dk_at dksX4_send_10 14 rfl rfl)
theorem dX4_send_248 : decode cX4_send 248 = .ok (.iload 6, 2) := dk_21 6 (dk_at dksX4_send_10 15 rfl rfl)
theorem dX4_send_250 : decode cX4_send 250 = .ok (.aaload, 1) := dk_50 (dk_at dksX4_send_10 17 rfl rfl)
theorem dX4_send_251 : decode cX4_send 251 = .ok (.aload_n 0, 1) := dk_42 (dk_at dksX4_send_10 18 rfl rfl)
theorem dX4_send_252 : decode cX4_send 252 = .ok (.getfield 64, 3) := dk_180 0 64 (dk_at dksX4_send_10 19 rfl rfl)
theorem dX4_send_255 : decode cX4_send 255 = .ok (.iload_n 1, 1) := dk_27 (dk_at dksX4_send_10 22 rfl rfl)
theorem dX4_send_256 : decode cX4_send 256 = .ok (.aaload, 1) := dk_50 (dk_at dksX4_send_10 23 rfl rfl)
theorem dX4_send_257 : decode cX4_send 257 = .ok (.iload 6, 2) := dk_21 6 (dk_at dksX4_send_11 0 rfl rfl)
theorem dX4_send_259 : decode cX4_send 259 = .ok (.dup2, 1) := dk_92 (dk_at dksX4_send_11 2 rfl rfl)
theorem dX4_send_260 : decode cX4_send 260 = .ok (.iaload, 1) := dk_46 (dk_at dksX4_send_11 3 rfl rfl)
theorem dX4_send_261 : decode cX4_send 261 = .ok (.dup_x2, 1) := dk_91 (dk_at dksX4_send_11 4 rfl rfl)
theorem dX4_send_262 : decode cX4_send 262 = .ok (.iconst 1, 1) := dk_4 (dk_at dksX4_send_11 5 rfl rfl)
theorem dX4_send_263 : decode cX4_send 263 = .ok (.iadd, 1) := dk_96 (dk_at dksX4_send_11 6 rfl rfl)
theorem dX4_send_264 : decode cX4_send 264 = .ok (.iastore, 1) := dk_79 (dk_at dksX4_send_11 7 rfl rfl)
theorem dX4_send_265 : decode cX4_send 265 = .ok (.iconst 3, 1) := dk_6 (dk_at dksX4_send_11 8 rfl rfl)
theorem dX4_send_266 : decode cX4_send 266 = .ok (.newarray .int, 2) := dk_188_10 (dk_at dksX4_send_11 9 rfl rfl)
theorem dX4_send_268 : decode cX4_send 268 = .ok (.dup, 1) := dk_89 (dk_at dksX4_send_11 11 rfl rfl)
theorem dX4_send_269 : decode cX4_send 269 = .ok (.iconst 0, 1) := dk_3 (dk_at dksX4_send_11 12 rfl rfl)
theorem dX4_send_270 : decode cX4_send 270 = .ok (.iload_n 2, 1) := dk_28 (dk_at dksX4_send_11 13 rfl rfl)
theorem dX4_send_271 : decode cX4_send 271 = .ok (.iastore, 1) := dk_79 (dk_at dksX4_send_11 14 rfl rfl)
theorem dX4_send_272 : decode cX4_send 272 = .ok (.dup, 1) := dk_89 (dk_at dksX4_send_11 15 rfl rfl)
theorem dX4_send_273 : decode cX4_send 273 = .ok (.iconst 1, 1) := dk_4 (dk_at dksX4_send_11 16 rfl rfl)
theorem dX4_send_274 : decode cX4_send 274 = .ok (.iload_n 3, 1) := dk_29 (dk_at dksX4_send_11 17 rfl rfl)
theorem dX4_send_275 : decode cX4_send 275 = .ok (.iastore, 1) := dk_79 (dk_at dksX4_send_11 18 rfl rfl)
theorem dX4_send_276 : decode cX4_send 276 = .ok (.dup, 1) := dk_89 (dk_at dksX4_send_11 19 rfl rfl)
theorem dX4_send_277 : decode cX4_send 277 = .ok (.iconst 2, 1) := dk_5 (dk_at dksX4_send_11 20 rfl rfl)
theorem dX4_send_278 : decode cX4_send 278 = .ok (.iload 4, 2) := dk_21 4 (dk_at dksX4_send_11 21 rfl rfl)
theorem dX4_send_280 : decode cX4_send 280 = .ok (.iastore, 1) := dk_79 (dk_at dksX4_send_11 23 rfl rfl)
theorem dX4_send_281 : decode cX4_send 281 = .ok (.aastore, 1) := dk_83 (dk_at dksX4_send_12 0 rfl rfl)
theorem dX4_send_282 : decode cX4_send 282 = .ok (.aload_n 0, 1) := dk_42 (dk_at dksX4_send_12 1 rfl rfl)
theorem dX4_send_283 : decode cX4_send 283 = .ok (.iload_n 1, 1) := dk_27 (dk_at dksX4_send_12 2 rfl rfl)
theorem dX4_send_284 : decode cX4_send 284 = .ok (.iload 6, 2) := dk_21 6 (dk_at dksX4_send_12 3 rfl rfl)
theorem dX4_send_286 : decode cX4_send 286 = .ok (.invokevirtual 235, 3) := dk_182 0 235 (dk_at dksX4_send_12 5 rfl rfl)
theorem dX4_send_289 : decode cX4_send 289 = .ok (.ifCond .ne 11, 3) := dk_154 0 11 (dk_at dksX4_send_12 8 rfl rfl)
theorem dX4_send_292 : decode cX4_send 292 = .ok (.aload_n 0, 1) := dk_42 (dk_at dksX4_send_12 11 rfl rfl)
theorem dX4_send_293 : decode cX4_send 293 = .ok (.iload_n 1, 1) := dk_27 (dk_at dksX4_send_12 12 rfl rfl)
theorem dX4_send_294 : decode cX4_send 294 = .ok (.iload 6, 2) := dk_21 6 (dk_at dksX4_send_12 13 rfl rfl)
theorem dX4_send_296 : decode cX4_send 296 = .ok (.invokevirtual 238, 3) := dk_182 0 238 (dk_at dksX4_send_12 15 rfl rfl)
theorem dX4_send_299 : decode cX4_send 299 = .ok (.pop, 1) := dk_87 (dk_at dksX4_send_12 18 rfl rfl)
theorem dX4_send_300 : decode cX4_send 300 = .ok (.iconst 0, 1) := dk_3 (dk_at dksX4_send_12 19 rfl rfl)
theorem dX4_send_301 : decode cX4_send 301 = .ok (.ireturn, 1) := dk_172 (dk_at dksX4_send_12 20 rfl rfl)
abbrev cX4_given : ByteArray := prog_8_method_31_code
def yX4_given : MethodName := ⟨RX4, "given", "(II)I"⟩
def dkwX4_given_3 : List UInt8 := [21, 4, 172]
abbrev dktX4_given_3 : List UInt8 := dkwX4_given_3 ++ []
def dkwX4_given_2 : List UInt8 := [4, 46, 100, 122, 154, 0, 14, 25, 6, 4, 46, 62, 25, 6, 5, 46, 54, 4, 132, 5, 1, 167, 255, 195]
abbrev dktX4_given_2 : List UInt8 := dkwX4_given_2 ++ dktX4_given_3
def dkwX4_given_1 : List UInt8 := [50, 21, 5, 50, 58, 6, 25, 6, 4, 46, 29, 164, 0, 31, 28, 25, 6, 3, 46, 130, 16, 8, 25, 6]
abbrev dktX4_given_1 : List UInt8 := dkwX4_given_1 ++ dktX4_given_2
def dkwX4_given_0 : List UInt8 := [2, 62, 2, 54, 4, 3, 54, 5, 21, 5, 42, 180, 0, 17, 27, 46, 162, 0, 56, 42, 180, 0, 32, 27]
abbrev dktX4_given_0 : List UInt8 := dkwX4_given_0 ++ dktX4_given_1
theorem dksX4_given_0 : cX4_given.data.toList.drop 0 = dktX4_given_0 := by decide +kernel
theorem dksX4_given_1 : cX4_given.data.toList.drop 24 = dktX4_given_1 := dk_seg dksX4_given_0 24 rfl rfl
theorem dksX4_given_2 : cX4_given.data.toList.drop 48 = dktX4_given_2 := dk_seg dksX4_given_1 24 rfl rfl
theorem dksX4_given_3 : cX4_given.data.toList.drop 72 = dktX4_given_3 := dk_seg dksX4_given_2 24 rfl rfl
theorem dX4_given_0 : decode cX4_given 0 = .ok (.iconst (-1), 1) := dk_2 (dk_at dksX4_given_0 0 rfl rfl)
theorem dX4_given_1 : decode cX4_given 1 = .ok (.istore_n 3, 1) := dk_62 (dk_at dksX4_given_0 1 rfl rfl)
theorem dX4_given_2 : decode cX4_given 2 = .ok (.iconst (-1), 1) := dk_2 (dk_at dksX4_given_0 2 rfl rfl)
theorem dX4_given_3 : decode cX4_given 3 = .ok (.istore 4, 2) := dk_54 4 (dk_at dksX4_given_0 3 rfl rfl)
theorem dX4_given_5 : decode cX4_given 5 = .ok (.iconst 0, 1) := dk_3 (dk_at dksX4_given_0 5 rfl rfl)
theorem dX4_given_6 : decode cX4_given 6 = .ok (.istore 5, 2) := dk_54 5 (dk_at dksX4_given_0 6 rfl rfl)
theorem dX4_given_8 : decode cX4_given 8 = .ok (.iload 5, 2) := dk_21 5 (dk_at dksX4_given_0 8 rfl rfl)
theorem dX4_given_10 : decode cX4_given 10 = .ok (.aload_n 0, 1) := dk_42 (dk_at dksX4_given_0 10 rfl rfl)
theorem dX4_given_11 : decode cX4_given 11 = .ok (.getfield 17, 3) := dk_180 0 17 (dk_at dksX4_given_0 11 rfl rfl)
theorem dX4_given_14 : decode cX4_given 14 = .ok (.iload_n 1, 1) := dk_27 (dk_at dksX4_given_0 14 rfl rfl)
theorem dX4_given_15 : decode cX4_given 15 = .ok (.iaload, 1) := dk_46 (dk_at dksX4_given_0 15 rfl rfl)
theorem dX4_given_16 : decode cX4_given 16 = .ok (.if_icmp .ge 56, 3) := dk_162 0 56 (dk_at dksX4_given_0 16 rfl rfl)
theorem dX4_given_19 : decode cX4_given 19 = .ok (.aload_n 0, 1) := dk_42 (dk_at dksX4_given_0 19 rfl rfl)
theorem dX4_given_20 : decode cX4_given 20 = .ok (.getfield 32, 3) := dk_180 0 32 (dk_at dksX4_given_0 20 rfl rfl)
theorem dX4_given_23 : decode cX4_given 23 = .ok (.iload_n 1, 1) := dk_27 (dk_at dksX4_given_0 23 rfl rfl)
theorem dX4_given_24 : decode cX4_given 24 = .ok (.aaload, 1) := dk_50 (dk_at dksX4_given_1 0 rfl rfl)
theorem dX4_given_25 : decode cX4_given 25 = .ok (.iload 5, 2) := dk_21 5 (dk_at dksX4_given_1 1 rfl rfl)
theorem dX4_given_27 : decode cX4_given 27 = .ok (.aaload, 1) := dk_50 (dk_at dksX4_given_1 3 rfl rfl)
theorem dX4_given_28 : decode cX4_given 28 = .ok (.astore 6, 2) := dk_58 6 (dk_at dksX4_given_1 4 rfl rfl)
theorem dX4_given_30 : decode cX4_given 30 = .ok (.aload 6, 2) := dk_25 6 (dk_at dksX4_given_1 6 rfl rfl)
theorem dX4_given_32 : decode cX4_given 32 = .ok (.iconst 1, 1) := dk_4 (dk_at dksX4_given_1 8 rfl rfl)
theorem dX4_given_33 : decode cX4_given 33 = .ok (.iaload, 1) := dk_46 (dk_at dksX4_given_1 9 rfl rfl)
theorem dX4_given_34 : decode cX4_given 34 = .ok (.iload_n 3, 1) := dk_29 (dk_at dksX4_given_1 10 rfl rfl)
theorem dX4_given_35 : decode cX4_given 35 = .ok (.if_icmp .le 31, 3) := dk_164 0 31 (dk_at dksX4_given_1 11 rfl rfl)
theorem dX4_given_38 : decode cX4_given 38 = .ok (.iload_n 2, 1) := dk_28 (dk_at dksX4_given_1 14 rfl rfl)
theorem dX4_given_39 : decode cX4_given 39 = .ok (.aload 6, 2) := dk_25 6 (dk_at dksX4_given_1 15 rfl rfl)
theorem dX4_given_41 : decode cX4_given 41 = .ok (.iconst 0, 1) := dk_3 (dk_at dksX4_given_1 17 rfl rfl)
theorem dX4_given_42 : decode cX4_given 42 = .ok (.iaload, 1) := dk_46 (dk_at dksX4_given_1 18 rfl rfl)
theorem dX4_given_43 : decode cX4_given 43 = .ok (.ixor, 1) := dk_130 (dk_at dksX4_given_1 19 rfl rfl)
theorem dX4_given_44 : decode cX4_given 44 = .ok (.bipush 8, 2) := dk_16 8 (dk_at dksX4_given_1 20 rfl rfl)
theorem dX4_given_46 : decode cX4_given 46 = .ok (.aload 6, 2) := dk_25 6 (dk_at dksX4_given_1 22 rfl rfl)
theorem dX4_given_48 : decode cX4_given 48 = .ok (.iconst 1, 1) := dk_4 (dk_at dksX4_given_2 0 rfl rfl)
theorem dX4_given_49 : decode cX4_given 49 = .ok (.iaload, 1) := dk_46 (dk_at dksX4_given_2 1 rfl rfl)
theorem dX4_given_50 : decode cX4_given 50 = .ok (.isub, 1) := dk_100 (dk_at dksX4_given_2 2 rfl rfl)
theorem dX4_given_51 : decode cX4_given 51 = .ok (.ishr, 1) := dk_122 (dk_at dksX4_given_2 3 rfl rfl)
theorem dX4_given_52 : decode cX4_given 52 = .ok (.ifCond .ne 14, 3) := dk_154 0 14 (dk_at dksX4_given_2 4 rfl rfl)
theorem dX4_given_55 : decode cX4_given 55 = .ok (.aload 6, 2) := dk_25 6 (dk_at dksX4_given_2 7 rfl rfl)
theorem dX4_given_57 : decode cX4_given 57 = .ok (.iconst 1, 1) := dk_4 (dk_at dksX4_given_2 9 rfl rfl)
theorem dX4_given_58 : decode cX4_given 58 = .ok (.iaload, 1) := dk_46 (dk_at dksX4_given_2 10 rfl rfl)
theorem dX4_given_59 : decode cX4_given 59 = .ok (.istore_n 3, 1) := dk_62 (dk_at dksX4_given_2 11 rfl rfl)
theorem dX4_given_60 : decode cX4_given 60 = .ok (.aload 6, 2) := dk_25 6 (dk_at dksX4_given_2 12 rfl rfl)
theorem dX4_given_62 : decode cX4_given 62 = .ok (.iconst 2, 1) := dk_5 (dk_at dksX4_given_2 14 rfl rfl)
theorem dX4_given_63 : decode cX4_given 63 = .ok (.iaload, 1) := dk_46 (dk_at dksX4_given_2 15 rfl rfl)
theorem dX4_given_64 : decode cX4_given 64 = .ok (.istore 4, 2) := dk_54 4 (dk_at dksX4_given_2 16 rfl rfl)
theorem dX4_given_66 : decode cX4_given 66 = .ok (.iinc 5 1, 3) := dk_132 5 1 (dk_at dksX4_given_2 18 rfl rfl)
theorem dX4_given_69 : decode cX4_given 69 = .ok (.goto (-61), 3) := dk_167 255 195 (dk_at dksX4_given_2 21 rfl rfl)
theorem dX4_given_72 : decode cX4_given 72 = .ok (.iload 4, 2) := dk_21 4 (dk_at dksX4_given_3 0 rfl rfl)
theorem dX4_given_74 : decode cX4_given 74 = .ok (.ireturn, 1) := dk_172 (dk_at dksX4_given_3 2 rfl rfl)
abbrev cX4_usable : ByteArray := prog_8_method_26_code
def yX4_usable : MethodName := ⟨RX4, "usable", "(II)Z"⟩
def dkwX4_usable_1 : List UInt8 := [180, 0, 72, 27, 50, 28, 50, 4, 50, 8, 46, 16, 40, 162, 0, 7, 4, 167, 0, 4, 3, 172]
abbrev dktX4_usable_1 : List UInt8 := dkwX4_usable_1 ++ []
def dkwX4_usable_0 : List UInt8 := [42, 27, 28, 4, 182, 0, 166, 153, 0, 36, 42, 27, 28, 4, 182, 0, 170, 16, 30, 162, 0, 24, 42]
abbrev dktX4_usable_0 : List UInt8 := dkwX4_usable_0 ++ dktX4_usable_1
theorem dksX4_usable_0 : cX4_usable.data.toList.drop 0 = dktX4_usable_0 := by decide +kernel
theorem dksX4_usable_1 : cX4_usable.data.toList.drop 23 = dktX4_usable_1 := dk_seg dksX4_usable_0 23 rfl rfl
theorem dX4_usable_0 : decode cX4_usable 0 = .ok (.aload_n 0, 1) := dk_42 (dk_at dksX4_usable_0 0 rfl rfl)
theorem dX4_usable_1 : decode cX4_usable 1 = .ok (.iload_n 1, 1) := dk_27 (dk_at dksX4_usable_0 1 rfl rfl)
theorem dX4_usable_2 : decode cX4_usable 2 = .ok (.iload_n 2, 1) := dk_28 (dk_at dksX4_usable_0 2 rfl rfl)
theorem dX4_usable_3 : decode cX4_usable 3 = .ok (.iconst 1, 1) := dk_4 (dk_at dksX4_usable_0 3 rfl rfl)
theorem dX4_usable_4 : decode cX4_usable 4 = .ok (.invokevirtual 166, 3) := dk_182 0 166 (dk_at dksX4_usable_0 4 rfl rfl)
theorem dX4_usable_7 : decode cX4_usable 7 = .ok (.ifCond .eq 36, 3) := dk_153 0 36 (dk_at dksX4_usable_0 7 rfl rfl)
theorem dX4_usable_10 : decode cX4_usable 10 = .ok (.aload_n 0, 1) := dk_42 (dk_at dksX4_usable_0 10 rfl rfl)
theorem dX4_usable_11 : decode cX4_usable 11 = .ok (.iload_n 1, 1) := dk_27 (dk_at dksX4_usable_0 11 rfl rfl)
theorem dX4_usable_12 : decode cX4_usable 12 = .ok (.iload_n 2, 1) := dk_28 (dk_at dksX4_usable_0 12 rfl rfl)
theorem dX4_usable_13 : decode cX4_usable 13 = .ok (.iconst 1, 1) := dk_4 (dk_at dksX4_usable_0 13 rfl rfl)
theorem dX4_usable_14 : decode cX4_usable 14 = .ok (.invokevirtual 170, 3) := dk_182 0 170 (dk_at dksX4_usable_0 14 rfl rfl)
theorem dX4_usable_17 : decode cX4_usable 17 = .ok (.bipush 30, 2) := dk_16 30 (dk_at dksX4_usable_0 17 rfl rfl)
theorem dX4_usable_19 : decode cX4_usable 19 = .ok (.if_icmp .ge 24, 3) := dk_162 0 24 (dk_at dksX4_usable_0 19 rfl rfl)
theorem dX4_usable_22 : decode cX4_usable 22 = .ok (.aload_n 0, 1) := dk_42 (dk_at dksX4_usable_0 22 rfl rfl)
theorem dX4_usable_23 : decode cX4_usable 23 = .ok (.getfield 72, 3) := dk_180 0 72 (dk_at dksX4_usable_1 0 rfl rfl)
theorem dX4_usable_26 : decode cX4_usable 26 = .ok (.iload_n 1, 1) := dk_27 (dk_at dksX4_usable_1 3 rfl rfl)
theorem dX4_usable_27 : decode cX4_usable 27 = .ok (.aaload, 1) := dk_50 (dk_at dksX4_usable_1 4 rfl rfl)
theorem dX4_usable_28 : decode cX4_usable 28 = .ok (.iload_n 2, 1) := dk_28 (dk_at dksX4_usable_1 5 rfl rfl)
theorem dX4_usable_29 : decode cX4_usable 29 = .ok (.aaload, 1) := dk_50 (dk_at dksX4_usable_1 6 rfl rfl)
theorem dX4_usable_30 : decode cX4_usable 30 = .ok (.iconst 1, 1) := dk_4 (dk_at dksX4_usable_1 7 rfl rfl)
theorem dX4_usable_31 : decode cX4_usable 31 = .ok (.aaload, 1) := dk_50 (dk_at dksX4_usable_1 8 rfl rfl)
theorem dX4_usable_32 : decode cX4_usable 32 = .ok (.iconst 5, 1) := dk_8 (dk_at dksX4_usable_1 9 rfl rfl)
theorem dX4_usable_33 : decode cX4_usable 33 = .ok (.iaload, 1) := dk_46 (dk_at dksX4_usable_1 10 rfl rfl)
theorem dX4_usable_34 : decode cX4_usable 34 = .ok (.bipush 40, 2) := dk_16 40 (dk_at dksX4_usable_1 11 rfl rfl)
theorem dX4_usable_36 : decode cX4_usable 36 = .ok (.if_icmp .ge 7, 3) := dk_162 0 7 (dk_at dksX4_usable_1 13 rfl rfl)
theorem dX4_usable_39 : decode cX4_usable 39 = .ok (.iconst 1, 1) := dk_4 (dk_at dksX4_usable_1 16 rfl rfl)
theorem dX4_usable_40 : decode cX4_usable 40 = .ok (.goto 4, 3) := dk_167 0 4 (dk_at dksX4_usable_1 17 rfl rfl)
theorem dX4_usable_43 : decode cX4_usable 43 = .ok (.iconst 0, 1) := dk_3 (dk_at dksX4_usable_1 20 rfl rfl)
theorem dX4_usable_44 : decode cX4_usable 44 = .ok (.ireturn, 1) := dk_172 (dk_at dksX4_usable_1 21 rfl rfl)
abbrev cX4_isThere : ByteArray := prog_8_method_24_code
def yX4_isThere : MethodName := ⟨RX4, "isThere", "(III)Z"⟩
def dkwX4_isThere_0 : List UInt8 := [42, 180, 0, 72, 27, 50, 28, 50, 29, 50, 3, 46, 158, 0, 7, 4, 167, 0, 4, 3, 172]
abbrev dktX4_isThere_0 : List UInt8 := dkwX4_isThere_0 ++ []
theorem dksX4_isThere_0 : cX4_isThere.data.toList.drop 0 = dktX4_isThere_0 := by decide +kernel
theorem dX4_isThere_0 : decode cX4_isThere 0 = .ok (.aload_n 0, 1) := dk_42 (dk_at dksX4_isThere_0 0 rfl rfl)
theorem dX4_isThere_1 : decode cX4_isThere 1 = .ok (.getfield 72, 3) := dk_180 0 72 (dk_at dksX4_isThere_0 1 rfl rfl)
theorem dX4_isThere_4 : decode cX4_isThere 4 = .ok (.iload_n 1, 1) := dk_27 (dk_at dksX4_isThere_0 4 rfl rfl)
theorem dX4_isThere_5 : decode cX4_isThere 5 = .ok (.aaload, 1) := dk_50 (dk_at dksX4_isThere_0 5 rfl rfl)
theorem dX4_isThere_6 : decode cX4_isThere 6 = .ok (.iload_n 2, 1) := dk_28 (dk_at dksX4_isThere_0 6 rfl rfl)
theorem dX4_isThere_7 : decode cX4_isThere 7 = .ok (.aaload, 1) := dk_50 (dk_at dksX4_isThere_0 7 rfl rfl)
theorem dX4_isThere_8 : decode cX4_isThere 8 = .ok (.iload_n 3, 1) := dk_29 (dk_at dksX4_isThere_0 8 rfl rfl)
theorem dX4_isThere_9 : decode cX4_isThere 9 = .ok (.aaload, 1) := dk_50 (dk_at dksX4_isThere_0 9 rfl rfl)
theorem dX4_isThere_10 : decode cX4_isThere 10 = .ok (.iconst 0, 1) := dk_3 (dk_at dksX4_isThere_0 10 rfl rfl)
theorem dX4_isThere_11 : decode cX4_isThere 11 = .ok (.iaload, 1) := dk_46 (dk_at dksX4_isThere_0 11 rfl rfl)
theorem dX4_isThere_12 : decode cX4_isThere 12 = .ok (.ifCond .le 7, 3) := dk_158 0 7 (dk_at dksX4_isThere_0 12 rfl rfl)
theorem dX4_isThere_15 : decode cX4_isThere 15 = .ok (.iconst 1, 1) := dk_4 (dk_at dksX4_isThere_0 15 rfl rfl)
theorem dX4_isThere_16 : decode cX4_isThere 16 = .ok (.goto 4, 3) := dk_167 0 4 (dk_at dksX4_isThere_0 16 rfl rfl)
theorem dX4_isThere_19 : decode cX4_isThere 19 = .ok (.iconst 0, 1) := dk_3 (dk_at dksX4_isThere_0 19 rfl rfl)
theorem dX4_isThere_20 : decode cX4_isThere 20 = .ok (.ireturn, 1) := dk_172 (dk_at dksX4_isThere_0 20 rfl rfl)
abbrev cX4_age : ByteArray := prog_8_method_25_code
def yX4_age : MethodName := ⟨RX4, "age", "(III)I"⟩
def dkwX4_age_0 : List UInt8 := [42, 180, 0, 129, 42, 180, 0, 72, 27, 50, 28, 50, 29, 50, 5, 46, 100, 172]
abbrev dktX4_age_0 : List UInt8 := dkwX4_age_0 ++ []
theorem dksX4_age_0 : cX4_age.data.toList.drop 0 = dktX4_age_0 := by decide +kernel
theorem dX4_age_0 : decode cX4_age 0 = .ok (.aload_n 0, 1) := dk_42 (dk_at dksX4_age_0 0 rfl rfl)
theorem dX4_age_1 : decode cX4_age 1 = .ok (.getfield 129, 3) := dk_180 0 129 (dk_at dksX4_age_0 1 rfl rfl)
theorem dX4_age_4 : decode cX4_age 4 = .ok (.aload_n 0, 1) := dk_42 (dk_at dksX4_age_0 4 rfl rfl)
theorem dX4_age_5 : decode cX4_age 5 = .ok (.getfield 72, 3) := dk_180 0 72 (dk_at dksX4_age_0 5 rfl rfl)
theorem dX4_age_8 : decode cX4_age 8 = .ok (.iload_n 1, 1) := dk_27 (dk_at dksX4_age_0 8 rfl rfl)
theorem dX4_age_9 : decode cX4_age 9 = .ok (.aaload, 1) := dk_50 (dk_at dksX4_age_0 9 rfl rfl)
theorem dX4_age_10 : decode cX4_age 10 = .ok (.iload_n 2, 1) := dk_28 (dk_at dksX4_age_0 10 rfl rfl)
theorem dX4_age_11 : decode cX4_age 11 = .ok (.aaload, 1) := dk_50 (dk_at dksX4_age_0 11 rfl rfl)
theorem dX4_age_12 : decode cX4_age 12 = .ok (.iload_n 3, 1) := dk_29 (dk_at dksX4_age_0 12 rfl rfl)
theorem dX4_age_13 : decode cX4_age 13 = .ok (.aaload, 1) := dk_50 (dk_at dksX4_age_0 13 rfl rfl)
theorem dX4_age_14 : decode cX4_age 14 = .ok (.iconst 2, 1) := dk_5 (dk_at dksX4_age_0 14 rfl rfl)
theorem dX4_age_15 : decode cX4_age 15 = .ok (.iaload, 1) := dk_46 (dk_at dksX4_age_0 15 rfl rfl)
theorem dX4_age_16 : decode cX4_age 16 = .ok (.isub, 1) := dk_100 (dk_at dksX4_age_0 16 rfl rfl)
theorem dX4_age_17 : decode cX4_age 17 = .ok (.ireturn, 1) := dk_172 (dk_at dksX4_age_0 17 rfl rfl)
abbrev cX4_data : ByteArray := prog_8_method_29_code
def yX4_data : MethodName := ⟨RX4, "data", "(IIIII)V"⟩
def dkwX4_data_5 : List UInt8 := [79, 177]
abbrev dktX4_data_5 : List UInt8 := dkwX4_data_5 ++ []
def dkwX4_data_4 : List UInt8 := [89, 7, 21, 4, 79, 89, 8, 21, 5, 79, 184, 0, 154, 79, 182, 0, 162, 25, 6, 8, 21, 7, 4, 96]
abbrev dktX4_data_4 : List UInt8 := dkwX4_data_4 ++ dktX4_data_5
def dkwX4_data_3 : List UInt8 := [16, 6, 188, 10, 89, 3, 7, 79, 89, 4, 25, 6, 4, 46, 79, 89, 5, 21, 7, 79, 89, 6, 29, 79]
abbrev dktX4_data_3 : List UInt8 := dkwX4_data_3 ++ dktX4_data_4
def dkwX4_data_2 : List UInt8 := [21, 7, 79, 89, 5, 29, 79, 89, 6, 21, 4, 79, 89, 7, 21, 5, 79, 89, 8, 25, 6, 6, 46]
abbrev dktX4_data_2 : List UInt8 := dkwX4_data_2 ++ dktX4_data_3
def dkwX4_data_1 : List UInt8 := [46, 42, 180, 0, 37, 27, 50, 28, 46, 7, 16, 6, 188, 10, 89, 3, 25, 6, 4, 46, 79, 89, 4]
abbrev dktX4_data_1 : List UInt8 := dkwX4_data_1 ++ dktX4_data_2
def dkwX4_data_0 : List UInt8 := [42, 180, 0, 72, 27, 50, 28, 50, 4, 50, 58, 6, 25, 6, 8, 46, 54, 7, 42, 42, 180, 0, 13, 27]
abbrev dktX4_data_0 : List UInt8 := dkwX4_data_0 ++ dktX4_data_1
theorem dksX4_data_0 : cX4_data.data.toList.drop 0 = dktX4_data_0 := by decide +kernel
theorem dksX4_data_1 : cX4_data.data.toList.drop 24 = dktX4_data_1 := dk_seg dksX4_data_0 24 rfl rfl
theorem dksX4_data_2 : cX4_data.data.toList.drop 47 = dktX4_data_2 := dk_seg dksX4_data_1 23 rfl rfl
theorem dksX4_data_3 : cX4_data.data.toList.drop 70 = dktX4_data_3 := dk_seg dksX4_data_2 23 rfl rfl
theorem dksX4_data_4 : cX4_data.data.toList.drop 94 = dktX4_data_4 := dk_seg dksX4_data_3 24 rfl rfl
theorem dksX4_data_5 : cX4_data.data.toList.drop 118 = dktX4_data_5 := dk_seg dksX4_data_4 24 rfl rfl
theorem dX4_data_0 : decode cX4_data 0 = .ok (.aload_n 0, 1) := dk_42 (dk_at dksX4_data_0 0 rfl rfl)
theorem dX4_data_1 : decode cX4_data 1 = .ok (.getfield 72, 3) := dk_180 0 72 (dk_at dksX4_data_0 1 rfl rfl)
theorem dX4_data_4 : decode cX4_data 4 = .ok (.iload_n 1, 1) := dk_27 (dk_at dksX4_data_0 4 rfl rfl)
theorem dX4_data_5 : decode cX4_data 5 = .ok (.aaload, 1) := dk_50 (dk_at dksX4_data_0 5 rfl rfl)
theorem dX4_data_6 : decode cX4_data 6 = .ok (.iload_n 2, 1) := dk_28 (dk_at dksX4_data_0 6 rfl rfl)
theorem dX4_data_7 : decode cX4_data 7 = .ok (.aaload, 1) := dk_50 (dk_at dksX4_data_0 7 rfl rfl)
theorem dX4_data_8 : decode cX4_data 8 = .ok (.iconst 1, 1) := dk_4 (dk_at dksX4_data_0 8 rfl rfl)
theorem dX4_data_9 : decode cX4_data 9 = .ok (.aaload, 1) := dk_50 (dk_at dksX4_data_0 9 rfl rfl)
theorem dX4_data_10 : decode cX4_data 10 = .ok (.astore 6, 2) := dk_58 6 (dk_at dksX4_data_0 10 rfl rfl)
theorem dX4_data_12 : decode cX4_data 12 = .ok (.aload 6, 2) := dk_25 6 (dk_at dksX4_data_0 12 rfl rfl)
theorem dX4_data_14 : decode cX4_data 14 = .ok (.iconst 5, 1) := dk_8 (dk_at dksX4_data_0 14 rfl rfl)
theorem dX4_data_15 : decode cX4_data 15 = .ok (.iaload, 1) := dk_46 (dk_at dksX4_data_0 15 rfl rfl)
theorem dX4_data_16 : decode cX4_data 16 = .ok (.istore 7, 2) := dk_54 7 (dk_at dksX4_data_0 16 rfl rfl)
theorem dX4_data_18 : decode cX4_data 18 = .ok (.aload_n 0, 1) := dk_42 (dk_at dksX4_data_0 18 rfl rfl)
theorem dX4_data_19 : decode cX4_data 19 = .ok (.aload_n 0, 1) := dk_42 (dk_at dksX4_data_0 19 rfl rfl)
theorem dX4_data_20 : decode cX4_data 20 = .ok (.getfield 13, 3) := dk_180 0 13 (dk_at dksX4_data_0 20 rfl rfl)
theorem dX4_data_23 : decode cX4_data 23 = .ok (.iload_n 1, 1) := dk_27 (dk_at dksX4_data_0 23 rfl rfl)
theorem dX4_data_24 : decode cX4_data 24 = .ok (.iaload, 1) := dk_46 (dk_at dksX4_data_1 0 rfl rfl)
theorem dX4_data_25 : decode cX4_data 25 = .ok (.aload_n 0, 1) := dk_42 (dk_at dksX4_data_1 1 rfl rfl)
theorem dX4_data_26 : decode cX4_data 26 = .ok (.getfield 37, 3) := dk_180 0 37 (dk_at dksX4_data_1 2 rfl rfl)
theorem dX4_data_29 : decode cX4_data 29 = .ok (.iload_n 1, 1) := dk_27 (dk_at dksX4_data_1 5 rfl rfl)
theorem dX4_data_30 : decode cX4_data 30 = .ok (.aaload, 1) := dk_50 (dk_at dksX4_data_1 6 rfl rfl)
theorem dX4_data_31 : decode cX4_data 31 = .ok (.iload_n 2, 1) := dk_28 (dk_at dksX4_data_1 7 rfl rfl)
theorem dX4_data_32 : decode cX4_data 32 = .ok (.iaload, 1) := dk_46 (dk_at dksX4_data_1 8 rfl rfl)
theorem dX4_data_33 : decode cX4_data 33 = .ok (.iconst 4, 1) := dk_7 (dk_at dksX4_data_1 9 rfl rfl)
theorem dX4_data_34 : decode cX4_data 34 = .ok (.bipush 6, 2) := dk_16 6 (dk_at dksX4_data_1 10 rfl rfl)
theorem dX4_data_36 : decode cX4_data 36 = .ok (.newarray .int, 2) := dk_188_10 (dk_at dksX4_data_1 12 rfl rfl)
theorem dX4_data_38 : decode cX4_data 38 = .ok (.dup, 1) := dk_89 (dk_at dksX4_data_1 14 rfl rfl)
theorem dX4_data_39 : decode cX4_data 39 = .ok (.iconst 0, 1) := dk_3 (dk_at dksX4_data_1 15 rfl rfl)
theorem dX4_data_40 : decode cX4_data 40 = .ok (.aload 6, 2) := dk_25 6 (dk_at dksX4_data_1 16 rfl rfl)
theorem dX4_data_42 : decode cX4_data 42 = .ok (.iconst 1, 1) := dk_4 (dk_at dksX4_data_1 18 rfl rfl)
theorem dX4_data_43 : decode cX4_data 43 = .ok (.iaload, 1) := dk_46 (dk_at dksX4_data_1 19 rfl rfl)
theorem dX4_data_44 : decode cX4_data 44 = .ok (.iastore, 1) := dk_79 (dk_at dksX4_data_1 20 rfl rfl)
theorem dX4_data_45 : decode cX4_data 45 = .ok (.dup, 1) := dk_89 (dk_at dksX4_data_1 21 rfl rfl)
theorem dX4_data_46 : decode cX4_data 46 = .ok (.iconst 1, 1) := dk_4 (dk_at dksX4_data_1 22 rfl rfl)
theorem dX4_data_47 : decode cX4_data 47 = .ok (.iload 7, 2) := dk_21 7 (dk_at dksX4_data_2 0 rfl rfl)
theorem dX4_data_49 : decode cX4_data 49 = .ok (.iastore, 1) := dk_79 (dk_at dksX4_data_2 2 rfl rfl)
theorem dX4_data_50 : decode cX4_data 50 = .ok (.dup, 1) := dk_89 (dk_at dksX4_data_2 3 rfl rfl)
theorem dX4_data_51 : decode cX4_data 51 = .ok (.iconst 2, 1) := dk_5 (dk_at dksX4_data_2 4 rfl rfl)
theorem dX4_data_52 : decode cX4_data 52 = .ok (.iload_n 3, 1) := dk_29 (dk_at dksX4_data_2 5 rfl rfl)
theorem dX4_data_53 : decode cX4_data 53 = .ok (.iastore, 1) := dk_79 (dk_at dksX4_data_2 6 rfl rfl)
theorem dX4_data_54 : decode cX4_data 54 = .ok (.dup, 1) := dk_89 (dk_at dksX4_data_2 7 rfl rfl)
theorem dX4_data_55 : decode cX4_data 55 = .ok (.iconst 3, 1) := dk_6 (dk_at dksX4_data_2 8 rfl rfl)
theorem dX4_data_56 : decode cX4_data 56 = .ok (.iload 4, 2) := dk_21 4 (dk_at dksX4_data_2 9 rfl rfl)
theorem dX4_data_58 : decode cX4_data 58 = .ok (.iastore, 1) := dk_79 (dk_at dksX4_data_2 11 rfl rfl)
theorem dX4_data_59 : decode cX4_data 59 = .ok (.dup, 1) := dk_89 (dk_at dksX4_data_2 12 rfl rfl)
theorem dX4_data_60 : decode cX4_data 60 = .ok (.iconst 4, 1) := dk_7 (dk_at dksX4_data_2 13 rfl rfl)
theorem dX4_data_61 : decode cX4_data 61 = .ok (.iload 5, 2) := dk_21 5 (dk_at dksX4_data_2 14 rfl rfl)
theorem dX4_data_63 : decode cX4_data 63 = .ok (.iastore, 1) := dk_79 (dk_at dksX4_data_2 16 rfl rfl)
theorem dX4_data_64 : decode cX4_data 64 = .ok (.dup, 1) := dk_89 (dk_at dksX4_data_2 17 rfl rfl)
theorem dX4_data_65 : decode cX4_data 65 = .ok (.iconst 5, 1) := dk_8 (dk_at dksX4_data_2 18 rfl rfl)
theorem dX4_data_66 : decode cX4_data 66 = .ok (.aload 6, 2) := dk_25 6 (dk_at dksX4_data_2 19 rfl rfl)
theorem dX4_data_68 : decode cX4_data 68 = .ok (.iconst 3, 1) := dk_6 (dk_at dksX4_data_2 21 rfl rfl)
theorem dX4_data_69 : decode cX4_data 69 = .ok (.iaload, 1) := dk_46 (dk_at dksX4_data_2 22 rfl rfl)
theorem dX4_data_70 : decode cX4_data 70 = .ok (.bipush 6, 2) := dk_16 6 (dk_at dksX4_data_3 0 rfl rfl)
theorem dX4_data_72 : decode cX4_data 72 = .ok (.newarray .int, 2) := dk_188_10 (dk_at dksX4_data_3 2 rfl rfl)
theorem dX4_data_74 : decode cX4_data 74 = .ok (.dup, 1) := dk_89 (dk_at dksX4_data_3 4 rfl rfl)
theorem dX4_data_75 : decode cX4_data 75 = .ok (.iconst 0, 1) := dk_3 (dk_at dksX4_data_3 5 rfl rfl)
theorem dX4_data_76 : decode cX4_data 76 = .ok (.iconst 4, 1) := dk_7 (dk_at dksX4_data_3 6 rfl rfl)
theorem dX4_data_77 : decode cX4_data 77 = .ok (.iastore, 1) := dk_79 (dk_at dksX4_data_3 7 rfl rfl)
theorem dX4_data_78 : decode cX4_data 78 = .ok (.dup, 1) := dk_89 (dk_at dksX4_data_3 8 rfl rfl)
theorem dX4_data_79 : decode cX4_data 79 = .ok (.iconst 1, 1) := dk_4 (dk_at dksX4_data_3 9 rfl rfl)
theorem dX4_data_80 : decode cX4_data 80 = .ok (.aload 6, 2) := dk_25 6 (dk_at dksX4_data_3 10 rfl rfl)
theorem dX4_data_82 : decode cX4_data 82 = .ok (.iconst 1, 1) := dk_4 (dk_at dksX4_data_3 12 rfl rfl)
theorem dX4_data_83 : decode cX4_data 83 = .ok (.iaload, 1) := dk_46 (dk_at dksX4_data_3 13 rfl rfl)
theorem dX4_data_84 : decode cX4_data 84 = .ok (.iastore, 1) := dk_79 (dk_at dksX4_data_3 14 rfl rfl)
theorem dX4_data_85 : decode cX4_data 85 = .ok (.dup, 1) := dk_89 (dk_at dksX4_data_3 15 rfl rfl)
theorem dX4_data_86 : decode cX4_data 86 = .ok (.iconst 2, 1) := dk_5 (dk_at dksX4_data_3 16 rfl rfl)
theorem dX4_data_87 : decode cX4_data 87 = .ok (.iload 7, 2) := dk_21 7 (dk_at dksX4_data_3 17 rfl rfl)
theorem dX4_data_89 : decode cX4_data 89 = .ok (.iastore, 1) := dk_79 (dk_at dksX4_data_3 19 rfl rfl)
theorem dX4_data_90 : decode cX4_data 90 = .ok (.dup, 1) := dk_89 (dk_at dksX4_data_3 20 rfl rfl)
theorem dX4_data_91 : decode cX4_data 91 = .ok (.iconst 3, 1) := dk_6 (dk_at dksX4_data_3 21 rfl rfl)
theorem dX4_data_92 : decode cX4_data 92 = .ok (.iload_n 3, 1) := dk_29 (dk_at dksX4_data_3 22 rfl rfl)
theorem dX4_data_93 : decode cX4_data 93 = .ok (.iastore, 1) := dk_79 (dk_at dksX4_data_3 23 rfl rfl)
theorem dX4_data_94 : decode cX4_data 94 = .ok (.dup, 1) := dk_89 (dk_at dksX4_data_4 0 rfl rfl)
theorem dX4_data_95 : decode cX4_data 95 = .ok (.iconst 4, 1) := dk_7 (dk_at dksX4_data_4 1 rfl rfl)
theorem dX4_data_96 : decode cX4_data 96 = .ok (.iload 4, 2) := dk_21 4 (dk_at dksX4_data_4 2 rfl rfl)
theorem dX4_data_98 : decode cX4_data 98 = .ok (.iastore, 1) := dk_79 (dk_at dksX4_data_4 4 rfl rfl)
theorem dX4_data_99 : decode cX4_data 99 = .ok (.dup, 1) := dk_89 (dk_at dksX4_data_4 5 rfl rfl)
theorem dX4_data_100 : decode cX4_data 100 = .ok (.iconst 5, 1) := dk_8 (dk_at dksX4_data_4 6 rfl rfl)
theorem dX4_data_101 : decode cX4_data 101 = .ok (.iload 5, 2) := dk_21 5 (dk_at dksX4_data_4 7 rfl rfl)
theorem dX4_data_103 : decode cX4_data 103 = .ok (.iastore, 1) := dk_79 (dk_at dksX4_data_4 9 rfl rfl)
theorem dX4_data_104 : decode cX4_data 104 = .ok (.invokestatic 154, 3) := dk_184 0 154 (dk_at dksX4_data_4 10 rfl rfl)
theorem dX4_data_107 : decode cX4_data 107 = .ok (.iastore, 1) := dk_79 (dk_at dksX4_data_4 13 rfl rfl)
theorem dX4_data_108 : decode cX4_data 108 = .ok (.invokevirtual 162, 3) := dk_182 0 162 (dk_at dksX4_data_4 14 rfl rfl)
theorem dX4_data_111 : decode cX4_data 111 = .ok (.aload 6, 2) := dk_25 6 (dk_at dksX4_data_4 17 rfl rfl)
theorem dX4_data_113 : decode cX4_data 113 = .ok (.iconst 5, 1) := dk_8 (dk_at dksX4_data_4 19 rfl rfl)
theorem dX4_data_114 : decode cX4_data 114 = .ok (.iload 7, 2) := dk_21 7 (dk_at dksX4_data_4 20 rfl rfl)
theorem dX4_data_116 : decode cX4_data 116 = .ok (.iconst 1, 1) := dk_4 (dk_at dksX4_data_4 22 rfl rfl)
theorem dX4_data_117 : decode cX4_data 117 = .ok (.iadd, 1) := dk_96 (dk_at dksX4_data_4 23 rfl rfl)
theorem dX4_data_118 : decode cX4_data 118 = .ok (.iastore, 1) := dk_79 (dk_at dksX4_data_5 0 rfl rfl)
theorem dX4_data_119 : decode cX4_data 119 = .ok (.return_, 1) := dk_177 (dk_at dksX4_data_5 1 rfl rfl)
abbrev cX4_sealOf : ByteArray := prog_8_method_13_code
def yX4_sealOf : MethodName := ⟨RX4, "sealOf", "(I[I)I"⟩
def dkwX4_sealOf_2 : List UInt8 := [20, 0, 89, 97, 184, 0, 112, 105, 97, 184, 0, 112, 65, 132, 8, 1, 167, 255, 210, 32, 136, 172]
abbrev dktX4_sealOf_2 : List UInt8 := dkwX4_sealOf_2 ++ []
def dkwX4_sealOf_1 : List UInt8 := [25, 6, 21, 8, 46, 54, 9, 22, 4, 26, 133, 105, 184, 0, 112, 55, 4, 32, 22, 4, 21, 9, 133]
abbrev dktX4_sealOf_1 : List UInt8 := dkwX4_sealOf_1 ++ dktX4_sealOf_2
def dkwX4_sealOf_0 : List UInt8 := [9, 65, 10, 55, 4, 43, 58, 6, 25, 6, 190, 54, 7, 3, 54, 8, 21, 8, 21, 7, 162, 0, 45]
abbrev dktX4_sealOf_0 : List UInt8 := dkwX4_sealOf_0 ++ dktX4_sealOf_1
theorem dksX4_sealOf_0 : cX4_sealOf.data.toList.drop 0 = dktX4_sealOf_0 := by decide +kernel
theorem dksX4_sealOf_1 : cX4_sealOf.data.toList.drop 23 = dktX4_sealOf_1 := dk_seg dksX4_sealOf_0 23 rfl rfl
theorem dksX4_sealOf_2 : cX4_sealOf.data.toList.drop 46 = dktX4_sealOf_2 := dk_seg dksX4_sealOf_1 23 rfl rfl
theorem dX4_sealOf_0 : decode cX4_sealOf 0 = .ok (.lconst 0, 1) := dk_9 (dk_at dksX4_sealOf_0 0 rfl rfl)
theorem dX4_sealOf_1 : decode cX4_sealOf 1 = .ok (.lstore_n 2, 1) := dk_65 (dk_at dksX4_sealOf_0 1 rfl rfl)
theorem dX4_sealOf_2 : decode cX4_sealOf 2 = .ok (.lconst 1, 1) := dk_10 (dk_at dksX4_sealOf_0 2 rfl rfl)
theorem dX4_sealOf_3 : decode cX4_sealOf 3 = .ok (.lstore 4, 2) := dk_55 4 (dk_at dksX4_sealOf_0 3 rfl rfl)
theorem dX4_sealOf_5 : decode cX4_sealOf 5 = .ok (.aload_n 1, 1) := dk_43 (dk_at dksX4_sealOf_0 5 rfl rfl)
theorem dX4_sealOf_6 : decode cX4_sealOf 6 = .ok (.astore 6, 2) := dk_58 6 (dk_at dksX4_sealOf_0 6 rfl rfl)
theorem dX4_sealOf_8 : decode cX4_sealOf 8 = .ok (.aload 6, 2) := dk_25 6 (dk_at dksX4_sealOf_0 8 rfl rfl)
theorem dX4_sealOf_10 : decode cX4_sealOf 10 = .ok (.arraylength, 1) := dk_190 (dk_at dksX4_sealOf_0 10 rfl rfl)
theorem dX4_sealOf_11 : decode cX4_sealOf 11 = .ok (.istore 7, 2) := dk_54 7 (dk_at dksX4_sealOf_0 11 rfl rfl)
theorem dX4_sealOf_13 : decode cX4_sealOf 13 = .ok (.iconst 0, 1) := dk_3 (dk_at dksX4_sealOf_0 13 rfl rfl)
theorem dX4_sealOf_14 : decode cX4_sealOf 14 = .ok (.istore 8, 2) := dk_54 8 (dk_at dksX4_sealOf_0 14 rfl rfl)
theorem dX4_sealOf_16 : decode cX4_sealOf 16 = .ok (.iload 8, 2) := dk_21 8 (dk_at dksX4_sealOf_0 16 rfl rfl)
theorem dX4_sealOf_18 : decode cX4_sealOf 18 = .ok (.iload 7, 2) := dk_21 7 (dk_at dksX4_sealOf_0 18 rfl rfl)
theorem dX4_sealOf_20 : decode cX4_sealOf 20 = .ok (.if_icmp .ge 45, 3) := dk_162 0 45 (dk_at dksX4_sealOf_0 20 rfl rfl)
theorem dX4_sealOf_23 : decode cX4_sealOf 23 = .ok (.aload 6, 2) := dk_25 6 (dk_at dksX4_sealOf_1 0 rfl rfl)
theorem dX4_sealOf_25 : decode cX4_sealOf 25 = .ok (.iload 8, 2) := dk_21 8 (dk_at dksX4_sealOf_1 2 rfl rfl)
theorem dX4_sealOf_27 : decode cX4_sealOf 27 = .ok (.iaload, 1) := dk_46 (dk_at dksX4_sealOf_1 4 rfl rfl)
theorem dX4_sealOf_28 : decode cX4_sealOf 28 = .ok (.istore 9, 2) := dk_54 9 (dk_at dksX4_sealOf_1 5 rfl rfl)
theorem dX4_sealOf_30 : decode cX4_sealOf 30 = .ok (.lload 4, 2) := dk_22 4 (dk_at dksX4_sealOf_1 7 rfl rfl)
theorem dX4_sealOf_32 : decode cX4_sealOf 32 = .ok (.iload_n 0, 1) := dk_26 (dk_at dksX4_sealOf_1 9 rfl rfl)
theorem dX4_sealOf_33 : decode cX4_sealOf 33 = .ok (.i2l, 1) := dk_133 (dk_at dksX4_sealOf_1 10 rfl rfl)
theorem dX4_sealOf_34 : decode cX4_sealOf 34 = .ok (.lmul, 1) := dk_105 (dk_at dksX4_sealOf_1 11 rfl rfl)
theorem dX4_sealOf_35 : decode cX4_sealOf 35 = .ok (.invokestatic 112, 3) := dk_184 0 112 (dk_at dksX4_sealOf_1 12 rfl rfl)
theorem dX4_sealOf_38 : decode cX4_sealOf 38 = .ok (.lstore 4, 2) := dk_55 4 (dk_at dksX4_sealOf_1 15 rfl rfl)
theorem dX4_sealOf_40 : decode cX4_sealOf 40 = .ok (.lload_n 2, 1) := dk_32 (dk_at dksX4_sealOf_1 17 rfl rfl)
theorem dX4_sealOf_41 : decode cX4_sealOf 41 = .ok (.lload 4, 2) := dk_22 4 (dk_at dksX4_sealOf_1 18 rfl rfl)
theorem dX4_sealOf_43 : decode cX4_sealOf 43 = .ok (.iload 9, 2) := dk_21 9 (dk_at dksX4_sealOf_1 20 rfl rfl)
theorem dX4_sealOf_45 : decode cX4_sealOf 45 = .ok (.i2l, 1) := dk_133 (dk_at dksX4_sealOf_1 22 rfl rfl)
theorem dX4_sealOf_46 : decode cX4_sealOf 46 = .ok (.ldc2_w 89, 3) := dk_20 0 89 (dk_at dksX4_sealOf_2 0 rfl rfl)
theorem dX4_sealOf_49 : decode cX4_sealOf 49 = .ok (.ladd, 1) := dk_97 (dk_at dksX4_sealOf_2 3 rfl rfl)
theorem dX4_sealOf_50 : decode cX4_sealOf 50 = .ok (.invokestatic 112, 3) := dk_184 0 112 (dk_at dksX4_sealOf_2 4 rfl rfl)
theorem dX4_sealOf_53 : decode cX4_sealOf 53 = .ok (.lmul, 1) := dk_105 (dk_at dksX4_sealOf_2 7 rfl rfl)
theorem dX4_sealOf_54 : decode cX4_sealOf 54 = .ok (.ladd, 1) := dk_97 (dk_at dksX4_sealOf_2 8 rfl rfl)
theorem dX4_sealOf_55 : decode cX4_sealOf 55 = .ok (.invokestatic 112, 3) := dk_184 0 112 (dk_at dksX4_sealOf_2 9 rfl rfl)
theorem dX4_sealOf_58 : decode cX4_sealOf 58 = .ok (.lstore_n 2, 1) := dk_65 (dk_at dksX4_sealOf_2 12 rfl rfl)
theorem dX4_sealOf_59 : decode cX4_sealOf 59 = .ok (.iinc 8 1, 3) := dk_132 8 1 (dk_at dksX4_sealOf_2 13 rfl rfl)
theorem dX4_sealOf_62 : decode cX4_sealOf 62 = .ok (.goto (-46), 3) := dk_167 255 210 (dk_at dksX4_sealOf_2 16 rfl rfl)
theorem dX4_sealOf_65 : decode cX4_sealOf 65 = .ok (.lload_n 2, 1) := dk_32 (dk_at dksX4_sealOf_2 19 rfl rfl)
theorem dX4_sealOf_66 : decode cX4_sealOf 66 = .ok (.l2i, 1) := dk_136 (dk_at dksX4_sealOf_2 20 rfl rfl)
theorem dX4_sealOf_67 : decode cX4_sealOf 67 = .ok (.ireturn, 1) := dk_172 (dk_at dksX4_sealOf_2 21 rfl rfl)
abbrev cX4_rest : ByteArray := prog_8_method_12_code
def yX4_rest : MethodName := ⟨RX4, "rest", "(J)J"⟩
def dkwX4_rest_0 : List UInt8 := [30, 20, 0, 116, 113, 20, 0, 116, 97, 20, 0, 116, 113, 173]
abbrev dktX4_rest_0 : List UInt8 := dkwX4_rest_0 ++ []
theorem dksX4_rest_0 : cX4_rest.data.toList.drop 0 = dktX4_rest_0 := by decide +kernel
theorem dX4_rest_0 : decode cX4_rest 0 = .ok (.lload_n 0, 1) := dk_30 (dk_at dksX4_rest_0 0 rfl rfl)
theorem dX4_rest_1 : decode cX4_rest 1 = .ok (.ldc2_w 116, 3) := dk_20 0 116 (dk_at dksX4_rest_0 1 rfl rfl)
theorem dX4_rest_4 : decode cX4_rest 4 = .ok (.lrem, 1) := dk_113 (dk_at dksX4_rest_0 4 rfl rfl)
theorem dX4_rest_5 : decode cX4_rest 5 = .ok (.ldc2_w 116, 3) := dk_20 0 116 (dk_at dksX4_rest_0 5 rfl rfl)
theorem dX4_rest_8 : decode cX4_rest 8 = .ok (.ladd, 1) := dk_97 (dk_at dksX4_rest_0 8 rfl rfl)
theorem dX4_rest_9 : decode cX4_rest 9 = .ok (.ldc2_w 116, 3) := dk_20 0 116 (dk_at dksX4_rest_0 9 rfl rfl)
theorem dX4_rest_12 : decode cX4_rest 12 = .ok (.lrem, 1) := dk_113 (dk_at dksX4_rest_0 12 rfl rfl)
theorem dX4_rest_13 : decode cX4_rest 13 = .ok (.lreturn, 1) := dk_173 (dk_at dksX4_rest_0 13 rfl rfl)
abbrev cX4_put : ByteArray := prog_8_method_17_code
def yX4_put : MethodName := ⟨RX4, "put", "(III[I)V"⟩
def dkwX4_put_4 : List UInt8 := [180, 0, 95, 4, 96, 181, 0, 95, 177]
abbrev dktX4_put_4 : List UInt8 := dkwX4_put_4 ++ []
def dkwX4_put_3 : List UInt8 := [167, 255, 220, 25, 5, 16, 15, 2, 79, 42, 180, 0, 80, 42, 180, 0, 95, 25, 5, 83, 42, 89]
abbrev dktX4_put_3 : List UInt8 := dkwX4_put_3 ++ dktX4_put_4
def dkwX4_put_2 : List UInt8 := [25, 4, 21, 6, 46, 79, 25, 5, 16, 9, 21, 6, 96, 25, 4, 21, 6, 46, 79, 132, 6, 1]
abbrev dktX4_put_2 : List UInt8 := dkwX4_put_2 ++ dktX4_put_3
def dkwX4_put_1 : List UInt8 := [28, 79, 25, 5, 5, 29, 79, 3, 54, 6, 21, 6, 25, 4, 190, 162, 0, 34, 25, 5, 6, 21, 6, 96]
abbrev dktX4_put_1 : List UInt8 := dkwX4_put_1 ++ dktX4_put_2
def dkwX4_put_0 : List UInt8 := [42, 180, 0, 95, 16, 60, 160, 0, 4, 177, 16, 16, 188, 10, 58, 5, 25, 5, 3, 27, 79, 25, 5, 4]
abbrev dktX4_put_0 : List UInt8 := dkwX4_put_0 ++ dktX4_put_1
theorem dksX4_put_0 : cX4_put.data.toList.drop 0 = dktX4_put_0 := by decide +kernel
theorem dksX4_put_1 : cX4_put.data.toList.drop 24 = dktX4_put_1 := dk_seg dksX4_put_0 24 rfl rfl
theorem dksX4_put_2 : cX4_put.data.toList.drop 48 = dktX4_put_2 := dk_seg dksX4_put_1 24 rfl rfl
theorem dksX4_put_3 : cX4_put.data.toList.drop 70 = dktX4_put_3 := dk_seg dksX4_put_2 22 rfl rfl
theorem dksX4_put_4 : cX4_put.data.toList.drop 92 = dktX4_put_4 := dk_seg dksX4_put_3 22 rfl rfl
theorem dX4_put_0 : decode cX4_put 0 = .ok (.aload_n 0, 1) := dk_42 (dk_at dksX4_put_0 0 rfl rfl)
theorem dX4_put_1 : decode cX4_put 1 = .ok (.getfield 95, 3) := dk_180 0 95 (dk_at dksX4_put_0 1 rfl rfl)
theorem dX4_put_4 : decode cX4_put 4 = .ok (.bipush 60, 2) := dk_16 60 (dk_at dksX4_put_0 4 rfl rfl)
theorem dX4_put_6 : decode cX4_put 6 = .ok (.if_icmp .ne 4, 3) := dk_160 0 4 (dk_at dksX4_put_0 6 rfl rfl)
theorem dX4_put_9 : decode cX4_put 9 = .ok (.return_, 1) := dk_177 (dk_at dksX4_put_0 9 rfl rfl)
theorem dX4_put_10 : decode cX4_put 10 = .ok (.bipush 16, 2) := dk_16 16 (dk_at dksX4_put_0 10 rfl rfl)
theorem dX4_put_12 : decode cX4_put 12 = .ok (.newarray .int, 2) := dk_188_10 (dk_at dksX4_put_0 12 rfl rfl)
theorem dX4_put_14 : decode cX4_put 14 = .ok (.astore 5, 2) := dk_58 5 (dk_at dksX4_put_0 14 rfl rfl)
theorem dX4_put_16 : decode cX4_put 16 = .ok (.aload 5, 2) := dk_25 5 (dk_at dksX4_put_0 16 rfl rfl)
theorem dX4_put_18 : decode cX4_put 18 = .ok (.iconst 0, 1) := dk_3 (dk_at dksX4_put_0 18 rfl rfl)
theorem dX4_put_19 : decode cX4_put 19 = .ok (.iload_n 1, 1) := dk_27 (dk_at dksX4_put_0 19 rfl rfl)
theorem dX4_put_20 : decode cX4_put 20 = .ok (.iastore, 1) := dk_79 (dk_at dksX4_put_0 20 rfl rfl)
theorem dX4_put_21 : decode cX4_put 21 = .ok (.aload 5, 2) := dk_25 5 (dk_at dksX4_put_0 21 rfl rfl)
theorem dX4_put_23 : decode cX4_put 23 = .ok (.iconst 1, 1) := dk_4 (dk_at dksX4_put_0 23 rfl rfl)
theorem dX4_put_24 : decode cX4_put 24 = .ok (.iload_n 2, 1) := dk_28 (dk_at dksX4_put_1 0 rfl rfl)
theorem dX4_put_25 : decode cX4_put 25 = .ok (.iastore, 1) := dk_79 (dk_at dksX4_put_1 1 rfl rfl)
theorem dX4_put_26 : decode cX4_put 26 = .ok (.aload 5, 2) := dk_25 5 (dk_at dksX4_put_1 2 rfl rfl)
theorem dX4_put_28 : decode cX4_put 28 = .ok (.iconst 2, 1) := dk_5 (dk_at dksX4_put_1 4 rfl rfl)
theorem dX4_put_29 : decode cX4_put 29 = .ok (.iload_n 3, 1) := dk_29 (dk_at dksX4_put_1 5 rfl rfl)
theorem dX4_put_30 : decode cX4_put 30 = .ok (.iastore, 1) := dk_79 (dk_at dksX4_put_1 6 rfl rfl)
theorem dX4_put_31 : decode cX4_put 31 = .ok (.iconst 0, 1) := dk_3 (dk_at dksX4_put_1 7 rfl rfl)
theorem dX4_put_32 : decode cX4_put 32 = .ok (.istore 6, 2) := dk_54 6 (dk_at dksX4_put_1 8 rfl rfl)
theorem dX4_put_34 : decode cX4_put 34 = .ok (.iload 6, 2) := dk_21 6 (dk_at dksX4_put_1 10 rfl rfl)
theorem dX4_put_36 : decode cX4_put 36 = .ok (.aload 4, 2) := dk_25 4 (dk_at dksX4_put_1 12 rfl rfl)
theorem dX4_put_38 : decode cX4_put 38 = .ok (.arraylength, 1) := dk_190 (dk_at dksX4_put_1 14 rfl rfl)
theorem dX4_put_39 : decode cX4_put 39 = .ok (.if_icmp .ge 34, 3) := dk_162 0 34 (dk_at dksX4_put_1 15 rfl rfl)
theorem dX4_put_42 : decode cX4_put 42 = .ok (.aload 5, 2) := dk_25 5 (dk_at dksX4_put_1 18 rfl rfl)
theorem dX4_put_44 : decode cX4_put 44 = .ok (.iconst 3, 1) := dk_6 (dk_at dksX4_put_1 20 rfl rfl)
theorem dX4_put_45 : decode cX4_put 45 = .ok (.iload 6, 2) := dk_21 6 (dk_at dksX4_put_1 21 rfl rfl)
theorem dX4_put_47 : decode cX4_put 47 = .ok (.iadd, 1) := dk_96 (dk_at dksX4_put_1 23 rfl rfl)
theorem dX4_put_48 : decode cX4_put 48 = .ok (.aload 4, 2) := dk_25 4 (dk_at dksX4_put_2 0 rfl rfl)
theorem dX4_put_50 : decode cX4_put 50 = .ok (.iload 6, 2) := dk_21 6 (dk_at dksX4_put_2 2 rfl rfl)
theorem dX4_put_52 : decode cX4_put 52 = .ok (.iaload, 1) := dk_46 (dk_at dksX4_put_2 4 rfl rfl)
theorem dX4_put_53 : decode cX4_put 53 = .ok (.iastore, 1) := dk_79 (dk_at dksX4_put_2 5 rfl rfl)
theorem dX4_put_54 : decode cX4_put 54 = .ok (.aload 5, 2) := dk_25 5 (dk_at dksX4_put_2 6 rfl rfl)
theorem dX4_put_56 : decode cX4_put 56 = .ok (.bipush 9, 2) := dk_16 9 (dk_at dksX4_put_2 8 rfl rfl)
theorem dX4_put_58 : decode cX4_put 58 = .ok (.iload 6, 2) := dk_21 6 (dk_at dksX4_put_2 10 rfl rfl)
theorem dX4_put_60 : decode cX4_put 60 = .ok (.iadd, 1) := dk_96 (dk_at dksX4_put_2 12 rfl rfl)
theorem dX4_put_61 : decode cX4_put 61 = .ok (.aload 4, 2) := dk_25 4 (dk_at dksX4_put_2 13 rfl rfl)
theorem dX4_put_63 : decode cX4_put 63 = .ok (.iload 6, 2) := dk_21 6 (dk_at dksX4_put_2 15 rfl rfl)
theorem dX4_put_65 : decode cX4_put 65 = .ok (.iaload, 1) := dk_46 (dk_at dksX4_put_2 17 rfl rfl)
theorem dX4_put_66 : decode cX4_put 66 = .ok (.iastore, 1) := dk_79 (dk_at dksX4_put_2 18 rfl rfl)
theorem dX4_put_67 : decode cX4_put 67 = .ok (.iinc 6 1, 3) := dk_132 6 1 (dk_at dksX4_put_2 19 rfl rfl)
theorem dX4_put_70 : decode cX4_put 70 = .ok (.goto (-36), 3) := dk_167 255 220 (dk_at dksX4_put_3 0 rfl rfl)
theorem dX4_put_73 : decode cX4_put 73 = .ok (.aload 5, 2) := dk_25 5 (dk_at dksX4_put_3 3 rfl rfl)
theorem dX4_put_75 : decode cX4_put 75 = .ok (.bipush 15, 2) := dk_16 15 (dk_at dksX4_put_3 5 rfl rfl)
theorem dX4_put_77 : decode cX4_put 77 = .ok (.iconst (-1), 1) := dk_2 (dk_at dksX4_put_3 7 rfl rfl)
theorem dX4_put_78 : decode cX4_put 78 = .ok (.iastore, 1) := dk_79 (dk_at dksX4_put_3 8 rfl rfl)
theorem dX4_put_79 : decode cX4_put 79 = .ok (.aload_n 0, 1) := dk_42 (dk_at dksX4_put_3 9 rfl rfl)
theorem dX4_put_80 : decode cX4_put 80 = .ok (.getfield 80, 3) := dk_180 0 80 (dk_at dksX4_put_3 10 rfl rfl)
theorem dX4_put_83 : decode cX4_put 83 = .ok (.aload_n 0, 1) := dk_42 (dk_at dksX4_put_3 13 rfl rfl)
theorem dX4_put_84 : decode cX4_put 84 = .ok (.getfield 95, 3) := dk_180 0 95 (dk_at dksX4_put_3 14 rfl rfl)
theorem dX4_put_87 : decode cX4_put 87 = .ok (.aload 5, 2) := dk_25 5 (dk_at dksX4_put_3 17 rfl rfl)
theorem dX4_put_89 : decode cX4_put 89 = .ok (.aastore, 1) := dk_83 (dk_at dksX4_put_3 19 rfl rfl)
theorem dX4_put_90 : decode cX4_put 90 = .ok (.aload_n 0, 1) := dk_42 (dk_at dksX4_put_3 20 rfl rfl)
theorem dX4_put_91 : decode cX4_put 91 = .ok (.dup, 1) := dk_89 (dk_at dksX4_put_3 21 rfl rfl)
theorem dX4_put_92 : decode cX4_put 92 = .ok (.getfield 95, 3) := dk_180 0 95 (dk_at dksX4_put_4 0 rfl rfl)
theorem dX4_put_95 : decode cX4_put 95 = .ok (.iconst 1, 1) := dk_4 (dk_at dksX4_put_4 3 rfl rfl)
theorem dX4_put_96 : decode cX4_put 96 = .ok (.iadd, 1) := dk_96 (dk_at dksX4_put_4 4 rfl rfl)
theorem dX4_put_97 : decode cX4_put 97 = .ok (.putfield 95, 3) := dk_181 0 95 (dk_at dksX4_put_4 5 rfl rfl)
theorem dX4_put_100 : decode cX4_put 100 = .ok (.return_, 1) := dk_177 (dk_at dksX4_put_4 8 rfl rfl)
abbrev cX4_isFresh : ByteArray := prog_8_method_20_code
def yX4_isFresh : MethodName := ⟨RX4, "isFresh", "(II)Z"⟩
def dkwX4_isFresh_1 : List UInt8 := [100, 8, 162, 0, 7, 4, 167, 0, 4, 3, 172]
abbrev dktX4_isFresh_1 : List UInt8 := dkwX4_isFresh_1 ++ []
def dkwX4_isFresh_0 : List UInt8 := [42, 180, 0, 46, 27, 50, 28, 46, 2, 159, 0, 24, 42, 180, 0, 129, 42, 180, 0, 55, 27, 50, 28, 46]
abbrev dktX4_isFresh_0 : List UInt8 := dkwX4_isFresh_0 ++ dktX4_isFresh_1
theorem dksX4_isFresh_0 : cX4_isFresh.data.toList.drop 0 = dktX4_isFresh_0 := by decide +kernel
theorem dksX4_isFresh_1 : cX4_isFresh.data.toList.drop 24 = dktX4_isFresh_1 := dk_seg dksX4_isFresh_0 24 rfl rfl
theorem dX4_isFresh_0 : decode cX4_isFresh 0 = .ok (.aload_n 0, 1) := dk_42 (dk_at dksX4_isFresh_0 0 rfl rfl)
theorem dX4_isFresh_1 : decode cX4_isFresh 1 = .ok (.getfield 46, 3) := dk_180 0 46 (dk_at dksX4_isFresh_0 1 rfl rfl)
theorem dX4_isFresh_4 : decode cX4_isFresh 4 = .ok (.iload_n 1, 1) := dk_27 (dk_at dksX4_isFresh_0 4 rfl rfl)
theorem dX4_isFresh_5 : decode cX4_isFresh 5 = .ok (.aaload, 1) := dk_50 (dk_at dksX4_isFresh_0 5 rfl rfl)
theorem dX4_isFresh_6 : decode cX4_isFresh 6 = .ok (.iload_n 2, 1) := dk_28 (dk_at dksX4_isFresh_0 6 rfl rfl)
theorem dX4_isFresh_7 : decode cX4_isFresh 7 = .ok (.iaload, 1) := dk_46 (dk_at dksX4_isFresh_0 7 rfl rfl)
theorem dX4_isFresh_8 : decode cX4_isFresh 8 = .ok (.iconst (-1), 1) := dk_2 (dk_at dksX4_isFresh_0 8 rfl rfl)
theorem dX4_isFresh_9 : decode cX4_isFresh 9 = .ok (.if_icmp .eq 24, 3) := dk_159 0 24 (dk_at dksX4_isFresh_0 9 rfl rfl)
theorem dX4_isFresh_12 : decode cX4_isFresh 12 = .ok (.aload_n 0, 1) := dk_42 (dk_at dksX4_isFresh_0 12 rfl rfl)
theorem dX4_isFresh_13 : decode cX4_isFresh 13 = .ok (.getfield 129, 3) := dk_180 0 129 (dk_at dksX4_isFresh_0 13 rfl rfl)
theorem dX4_isFresh_16 : decode cX4_isFresh 16 = .ok (.aload_n 0, 1) := dk_42 (dk_at dksX4_isFresh_0 16 rfl rfl)
theorem dX4_isFresh_17 : decode cX4_isFresh 17 = .ok (.getfield 55, 3) := dk_180 0 55 (dk_at dksX4_isFresh_0 17 rfl rfl)
theorem dX4_isFresh_20 : decode cX4_isFresh 20 = .ok (.iload_n 1, 1) := dk_27 (dk_at dksX4_isFresh_0 20 rfl rfl)
theorem dX4_isFresh_21 : decode cX4_isFresh 21 = .ok (.aaload, 1) := dk_50 (dk_at dksX4_isFresh_0 21 rfl rfl)
theorem dX4_isFresh_22 : decode cX4_isFresh 22 = .ok (.iload_n 2, 1) := dk_28 (dk_at dksX4_isFresh_0 22 rfl rfl)
theorem dX4_isFresh_23 : decode cX4_isFresh 23 = .ok (.iaload, 1) := dk_46 (dk_at dksX4_isFresh_0 23 rfl rfl)
theorem dX4_isFresh_24 : decode cX4_isFresh 24 = .ok (.isub, 1) := dk_100 (dk_at dksX4_isFresh_1 0 rfl rfl)
theorem dX4_isFresh_25 : decode cX4_isFresh 25 = .ok (.iconst 5, 1) := dk_8 (dk_at dksX4_isFresh_1 1 rfl rfl)
theorem dX4_isFresh_26 : decode cX4_isFresh 26 = .ok (.if_icmp .ge 7, 3) := dk_162 0 7 (dk_at dksX4_isFresh_1 2 rfl rfl)
theorem dX4_isFresh_29 : decode cX4_isFresh 29 = .ok (.iconst 1, 1) := dk_4 (dk_at dksX4_isFresh_1 5 rfl rfl)
theorem dX4_isFresh_30 : decode cX4_isFresh 30 = .ok (.goto 4, 3) := dk_167 0 4 (dk_at dksX4_isFresh_1 6 rfl rfl)
theorem dX4_isFresh_33 : decode cX4_isFresh 33 = .ok (.iconst 0, 1) := dk_3 (dk_at dksX4_isFresh_1 9 rfl rfl)
theorem dX4_isFresh_34 : decode cX4_isFresh 34 = .ok (.ireturn, 1) := dk_172 (dk_at dksX4_isFresh_1 10 rfl rfl)
abbrev cX4_hello : ByteArray := prog_8_method_23_code
def yX4_hello : MethodName := ⟨RX4, "hello", "(II)I"⟩
def dkwX4_hello_9 : List UInt8 := [46, 79, 89, 5, 21, 7, 79, 184, 0, 138, 167, 0, 4, 3, 79, 182, 0, 162, 29, 172]
abbrev dktX4_hello_9 : List UInt8 := dkwX4_hello_9 ++ []
def dkwX4_hello_8 : List UInt8 := [27, 28, 182, 0, 158, 153, 0, 32, 6, 188, 10, 89, 3, 5, 79, 89, 4, 42, 180, 0, 58, 27, 50, 28]
abbrev dktX4_hello_8 : List UInt8 := dkwX4_hello_8 ++ dktX4_hello_9
def dkwX4_hello_7 : List UInt8 := [21, 4, 184, 0, 122, 79, 89, 5, 21, 5, 79, 89, 6, 21, 6, 79, 89, 7, 21, 7, 79, 89, 8, 42]
abbrev dktX4_hello_7 : List UInt8 := dkwX4_hello_7 ++ dktX4_hello_8
def dkwX4_hello_6 : List UInt8 := [180, 0, 13, 27, 46, 42, 180, 0, 37, 27, 50, 28, 46, 4, 16, 6, 188, 10, 89, 3, 29, 79, 89, 4]
abbrev dktX4_hello_6 : List UInt8 := dkwX4_hello_6 ++ dktX4_hello_7
def dkwX4_hello_5 : List UInt8 := [42, 180, 0, 52, 27, 50, 28, 21, 7, 79, 42, 180, 0, 55, 27, 50, 28, 42, 180, 0, 129, 79, 42, 42]
abbrev dktX4_hello_5 : List UInt8 := dkwX4_hello_5 ++ dktX4_hello_6
def dkwX4_hello_4 : List UInt8 := [50, 28, 21, 6, 79, 42, 180, 0, 46, 27, 50, 28, 29, 79, 42, 180, 0, 49, 27, 50, 28, 21, 4, 79]
abbrev dktX4_hello_4 : List UInt8 := dkwX4_hello_4 ++ dktX4_hello_5
def dkwX4_hello_3 : List UInt8 := [184, 0, 122, 79, 89, 6, 21, 5, 79, 89, 7, 21, 6, 79, 184, 0, 154, 54, 7, 42, 180, 0, 43, 27]
abbrev dktX4_hello_3 : List UInt8 := dkwX4_hello_3 ++ dktX4_hello_4
def dkwX4_hello_2 : List UInt8 := [27, 28, 21, 4, 182, 0, 150, 8, 188, 10, 89, 3, 4, 79, 89, 4, 29, 79, 89, 5, 21, 4]
abbrev dktX4_hello_2 : List UInt8 := dkwX4_hello_2 ++ dktX4_hello_3
def dkwX4_hello_1 : List UInt8 := [54, 5, 7, 42, 180, 0, 129, 104, 42, 180, 0, 43, 27, 50, 28, 46, 4, 96, 184, 0, 145, 54, 6, 42]
abbrev dktX4_hello_1 : List UInt8 := dkwX4_hello_1 ++ dktX4_hello_2
def dkwX4_hello_0 : List UInt8 := [42, 89, 180, 0, 7, 90, 4, 96, 181, 0, 7, 62, 29, 184, 0, 142, 54, 4, 16, 10, 27, 104, 28, 96]
abbrev dktX4_hello_0 : List UInt8 := dkwX4_hello_0 ++ dktX4_hello_1
theorem dksX4_hello_0 : cX4_hello.data.toList.drop 0 = dktX4_hello_0 := by decide +kernel
theorem dksX4_hello_1 : cX4_hello.data.toList.drop 24 = dktX4_hello_1 := dk_seg dksX4_hello_0 24 rfl rfl
theorem dksX4_hello_2 : cX4_hello.data.toList.drop 48 = dktX4_hello_2 := dk_seg dksX4_hello_1 24 rfl rfl
theorem dksX4_hello_3 : cX4_hello.data.toList.drop 70 = dktX4_hello_3 := dk_seg dksX4_hello_2 22 rfl rfl
theorem dksX4_hello_4 : cX4_hello.data.toList.drop 94 = dktX4_hello_4 := dk_seg dksX4_hello_3 24 rfl rfl
theorem dksX4_hello_5 : cX4_hello.data.toList.drop 118 = dktX4_hello_5 := dk_seg dksX4_hello_4 24 rfl rfl
theorem dksX4_hello_6 : cX4_hello.data.toList.drop 142 = dktX4_hello_6 := dk_seg dksX4_hello_5 24 rfl rfl
theorem dksX4_hello_7 : cX4_hello.data.toList.drop 166 = dktX4_hello_7 := dk_seg dksX4_hello_6 24 rfl rfl
theorem dksX4_hello_8 : cX4_hello.data.toList.drop 190 = dktX4_hello_8 := dk_seg dksX4_hello_7 24 rfl rfl
theorem dksX4_hello_9 : cX4_hello.data.toList.drop 214 = dktX4_hello_9 := dk_seg dksX4_hello_8 24 rfl rfl
theorem dX4_hello_0 : decode cX4_hello 0 = .ok (.aload_n 0, 1) := dk_42 (dk_at dksX4_hello_0 0 rfl rfl)
theorem dX4_hello_1 : decode cX4_hello 1 = .ok (.dup, 1) := dk_89 (dk_at dksX4_hello_0 1 rfl rfl)
theorem dX4_hello_2 : decode cX4_hello 2 = .ok (.getfield 7, 3) := dk_180 0 7 (dk_at dksX4_hello_0 2 rfl rfl)
theorem dX4_hello_5 : decode cX4_hello 5 = .ok (.dup_x1, 1) := dk_90 (dk_at dksX4_hello_0 5 rfl rfl)
theorem dX4_hello_6 : decode cX4_hello 6 = .ok (.iconst 1, 1) := dk_4 (dk_at dksX4_hello_0 6 rfl rfl)
theorem dX4_hello_7 : decode cX4_hello 7 = .ok (.iadd, 1) := dk_96 (dk_at dksX4_hello_0 7 rfl rfl)
theorem dX4_hello_8 : decode cX4_hello 8 = .ok (.putfield 7, 3) := dk_181 0 7 (dk_at dksX4_hello_0 8 rfl rfl)
theorem dX4_hello_11 : decode cX4_hello 11 = .ok (.istore_n 3, 1) := dk_62 (dk_at dksX4_hello_0 11 rfl rfl)
theorem dX4_hello_12 : decode cX4_hello 12 = .ok (.iload_n 3, 1) := dk_29 (dk_at dksX4_hello_0 12 rfl rfl)
theorem dX4_hello_13 : decode cX4_hello 13 = .ok (.invokestatic 142, 3) := dk_184 0 142 (dk_at dksX4_hello_0 13 rfl rfl)
theorem dX4_hello_16 : decode cX4_hello 16 = .ok (.istore 4, 2) := dk_54 4 (dk_at dksX4_hello_0 16 rfl rfl)
theorem dX4_hello_18 : decode cX4_hello 18 = .ok (.bipush 10, 2) := dk_16 10 (dk_at dksX4_hello_0 18 rfl rfl)
theorem dX4_hello_20 : decode cX4_hello 20 = .ok (.iload_n 1, 1) := dk_27 (dk_at dksX4_hello_0 20 rfl rfl)
theorem dX4_hello_21 : decode cX4_hello 21 = .ok (.imul, 1) := dk_104 (dk_at dksX4_hello_0 21 rfl rfl)
theorem dX4_hello_22 : decode cX4_hello 22 = .ok (.iload_n 2, 1) := dk_28 (dk_at dksX4_hello_0 22 rfl rfl)
theorem dX4_hello_23 : decode cX4_hello 23 = .ok (.iadd, 1) := dk_96 (dk_at dksX4_hello_0 23 rfl rfl)
theorem dX4_hello_24 : decode cX4_hello 24 = .ok (.istore 5, 2) := dk_54 5 (dk_at dksX4_hello_1 0 rfl rfl)
theorem dX4_hello_26 : decode cX4_hello 26 = .ok (.iconst 4, 1) := dk_7 (dk_at dksX4_hello_1 2 rfl rfl)
theorem dX4_hello_27 : decode cX4_hello 27 = .ok (.aload_n 0, 1) := dk_42 (dk_at dksX4_hello_1 3 rfl rfl)
theorem dX4_hello_28 : decode cX4_hello 28 = .ok (.getfield 129, 3) := dk_180 0 129 (dk_at dksX4_hello_1 4 rfl rfl)
theorem dX4_hello_31 : decode cX4_hello 31 = .ok (.imul, 1) := dk_104 (dk_at dksX4_hello_1 7 rfl rfl)
theorem dX4_hello_32 : decode cX4_hello 32 = .ok (.aload_n 0, 1) := dk_42 (dk_at dksX4_hello_1 8 rfl rfl)
theorem dX4_hello_33 : decode cX4_hello 33 = .ok (.getfield 43, 3) := dk_180 0 43 (dk_at dksX4_hello_1 9 rfl rfl)
theorem dX4_hello_36 : decode cX4_hello 36 = .ok (.iload_n 1, 1) := dk_27 (dk_at dksX4_hello_1 12 rfl rfl)
theorem dX4_hello_37 : decode cX4_hello 37 = .ok (.aaload, 1) := dk_50 (dk_at dksX4_hello_1 13 rfl rfl)
theorem dX4_hello_38 : decode cX4_hello 38 = .ok (.iload_n 2, 1) := dk_28 (dk_at dksX4_hello_1 14 rfl rfl)
theorem dX4_hello_39 : decode cX4_hello 39 = .ok (.iaload, 1) := dk_46 (dk_at dksX4_hello_1 15 rfl rfl)
theorem dX4_hello_40 : decode cX4_hello 40 = .ok (.iconst 1, 1) := dk_4 (dk_at dksX4_hello_1 16 rfl rfl)
theorem dX4_hello_41 : decode cX4_hello 41 = .ok (.iadd, 1) := dk_96 (dk_at dksX4_hello_1 17 rfl rfl)
theorem dX4_hello_42 : decode cX4_hello 42 = .ok (.invokestatic 145, 3) := dk_184 0 145 (dk_at dksX4_hello_1 18 rfl rfl)
theorem dX4_hello_45 : decode cX4_hello 45 = .ok (.istore 6, 2) := dk_54 6 (dk_at dksX4_hello_1 21 rfl rfl)
theorem dX4_hello_47 : decode cX4_hello 47 = .ok (.aload_n 0, 1) := dk_42 (dk_at dksX4_hello_1 23 rfl rfl)
theorem dX4_hello_48 : decode cX4_hello 48 = .ok (.iload_n 1, 1) := dk_27 (dk_at dksX4_hello_2 0 rfl rfl)
theorem dX4_hello_49 : decode cX4_hello 49 = .ok (.iload_n 2, 1) := dk_28 (dk_at dksX4_hello_2 1 rfl rfl)
theorem dX4_hello_50 : decode cX4_hello 50 = .ok (.iload 4, 2) := dk_21 4 (dk_at dksX4_hello_2 2 rfl rfl)
theorem dX4_hello_52 : decode cX4_hello 52 = .ok (.invokevirtual 150, 3) := dk_182 0 150 (dk_at dksX4_hello_2 4 rfl rfl)
theorem dX4_hello_55 : decode cX4_hello 55 = .ok (.iconst 5, 1) := dk_8 (dk_at dksX4_hello_2 7 rfl rfl)
theorem dX4_hello_56 : decode cX4_hello 56 = .ok (.newarray .int, 2) := dk_188_10 (dk_at dksX4_hello_2 8 rfl rfl)
theorem dX4_hello_58 : decode cX4_hello 58 = .ok (.dup, 1) := dk_89 (dk_at dksX4_hello_2 10 rfl rfl)
theorem dX4_hello_59 : decode cX4_hello 59 = .ok (.iconst 0, 1) := dk_3 (dk_at dksX4_hello_2 11 rfl rfl)
theorem dX4_hello_60 : decode cX4_hello 60 = .ok (.iconst 1, 1) := dk_4 (dk_at dksX4_hello_2 12 rfl rfl)
theorem dX4_hello_61 : decode cX4_hello 61 = .ok (.iastore, 1) := dk_79 (dk_at dksX4_hello_2 13 rfl rfl)
theorem dX4_hello_62 : decode cX4_hello 62 = .ok (.dup, 1) := dk_89 (dk_at dksX4_hello_2 14 rfl rfl)
theorem dX4_hello_63 : decode cX4_hello 63 = .ok (.iconst 1, 1) := dk_4 (dk_at dksX4_hello_2 15 rfl rfl)
theorem dX4_hello_64 : decode cX4_hello 64 = .ok (.iload_n 3, 1) := dk_29 (dk_at dksX4_hello_2 16 rfl rfl)
theorem dX4_hello_65 : decode cX4_hello 65 = .ok (.iastore, 1) := dk_79 (dk_at dksX4_hello_2 17 rfl rfl)
theorem dX4_hello_66 : decode cX4_hello 66 = .ok (.dup, 1) := dk_89 (dk_at dksX4_hello_2 18 rfl rfl)
theorem dX4_hello_67 : decode cX4_hello 67 = .ok (.iconst 2, 1) := dk_5 (dk_at dksX4_hello_2 19 rfl rfl)
theorem dX4_hello_68 : decode cX4_hello 68 = .ok (.iload 4, 2) := dk_21 4 (dk_at dksX4_hello_2 20 rfl rfl)
theorem dX4_hello_70 : decode cX4_hello 70 = .ok (.invokestatic 122, 3) := dk_184 0 122 (dk_at dksX4_hello_3 0 rfl rfl)
theorem dX4_hello_73 : decode cX4_hello 73 = .ok (.iastore, 1) := dk_79 (dk_at dksX4_hello_3 3 rfl rfl)
theorem dX4_hello_74 : decode cX4_hello 74 = .ok (.dup, 1) := dk_89 (dk_at dksX4_hello_3 4 rfl rfl)
theorem dX4_hello_75 : decode cX4_hello 75 = .ok (.iconst 3, 1) := dk_6 (dk_at dksX4_hello_3 5 rfl rfl)
theorem dX4_hello_76 : decode cX4_hello 76 = .ok (.iload 5, 2) := dk_21 5 (dk_at dksX4_hello_3 6 rfl rfl)
theorem dX4_hello_78 : decode cX4_hello 78 = .ok (.iastore, 1) := dk_79 (dk_at dksX4_hello_3 8 rfl rfl)
theorem dX4_hello_79 : decode cX4_hello 79 = .ok (.dup, 1) := dk_89 (dk_at dksX4_hello_3 9 rfl rfl)
theorem dX4_hello_80 : decode cX4_hello 80 = .ok (.iconst 4, 1) := dk_7 (dk_at dksX4_hello_3 10 rfl rfl)
theorem dX4_hello_81 : decode cX4_hello 81 = .ok (.iload 6, 2) := dk_21 6 (dk_at dksX4_hello_3 11 rfl rfl)
theorem dX4_hello_83 : decode cX4_hello 83 = .ok (.iastore, 1) := dk_79 (dk_at dksX4_hello_3 13 rfl rfl)
theorem dX4_hello_84 : decode cX4_hello 84 = .ok (.invokestatic 154, 3) := dk_184 0 154 (dk_at dksX4_hello_3 14 rfl rfl)
theorem dX4_hello_87 : decode cX4_hello 87 = .ok (.istore 7, 2) := dk_54 7 (dk_at dksX4_hello_3 17 rfl rfl)
theorem dX4_hello_89 : decode cX4_hello 89 = .ok (.aload_n 0, 1) := dk_42 (dk_at dksX4_hello_3 19 rfl rfl)
theorem dX4_hello_90 : decode cX4_hello 90 = .ok (.getfield 43, 3) := dk_180 0 43 (dk_at dksX4_hello_3 20 rfl rfl)
theorem dX4_hello_93 : decode cX4_hello 93 = .ok (.iload_n 1, 1) := dk_27 (dk_at dksX4_hello_3 23 rfl rfl)
theorem dX4_hello_94 : decode cX4_hello 94 = .ok (.aaload, 1) := dk_50 (dk_at dksX4_hello_4 0 rfl rfl)
theorem dX4_hello_95 : decode cX4_hello 95 = .ok (.iload_n 2, 1) := dk_28 (dk_at dksX4_hello_4 1 rfl rfl)
theorem dX4_hello_96 : decode cX4_hello 96 = .ok (.iload 6, 2) := dk_21 6 (dk_at dksX4_hello_4 2 rfl rfl)
theorem dX4_hello_98 : decode cX4_hello 98 = .ok (.iastore, 1) := dk_79 (dk_at dksX4_hello_4 4 rfl rfl)
theorem dX4_hello_99 : decode cX4_hello 99 = .ok (.aload_n 0, 1) := dk_42 (dk_at dksX4_hello_4 5 rfl rfl)
theorem dX4_hello_100 : decode cX4_hello 100 = .ok (.getfield 46, 3) := dk_180 0 46 (dk_at dksX4_hello_4 6 rfl rfl)
theorem dX4_hello_103 : decode cX4_hello 103 = .ok (.iload_n 1, 1) := dk_27 (dk_at dksX4_hello_4 9 rfl rfl)
theorem dX4_hello_104 : decode cX4_hello 104 = .ok (.aaload, 1) := dk_50 (dk_at dksX4_hello_4 10 rfl rfl)
theorem dX4_hello_105 : decode cX4_hello 105 = .ok (.iload_n 2, 1) := dk_28 (dk_at dksX4_hello_4 11 rfl rfl)
theorem dX4_hello_106 : decode cX4_hello 106 = .ok (.iload_n 3, 1) := dk_29 (dk_at dksX4_hello_4 12 rfl rfl)
theorem dX4_hello_107 : decode cX4_hello 107 = .ok (.iastore, 1) := dk_79 (dk_at dksX4_hello_4 13 rfl rfl)
theorem dX4_hello_108 : decode cX4_hello 108 = .ok (.aload_n 0, 1) := dk_42 (dk_at dksX4_hello_4 14 rfl rfl)
theorem dX4_hello_109 : decode cX4_hello 109 = .ok (.getfield 49, 3) := dk_180 0 49 (dk_at dksX4_hello_4 15 rfl rfl)
theorem dX4_hello_112 : decode cX4_hello 112 = .ok (.iload_n 1, 1) := dk_27 (dk_at dksX4_hello_4 18 rfl rfl)
theorem dX4_hello_113 : decode cX4_hello 113 = .ok (.aaload, 1) := dk_50 (dk_at dksX4_hello_4 19 rfl rfl)
theorem dX4_hello_114 : decode cX4_hello 114 = .ok (.iload_n 2, 1) := dk_28 (dk_at dksX4_hello_4 20 rfl rfl)
theorem dX4_hello_115 : decode cX4_hello 115 = .ok (.iload 4, 2) := dk_21 4 (dk_at dksX4_hello_4 21 rfl rfl)
theorem dX4_hello_117 : decode cX4_hello 117 = .ok (.iastore, 1) := dk_79 (dk_at dksX4_hello_4 23 rfl rfl)
theorem dX4_hello_118 : decode cX4_hello 118 = .ok (.aload_n 0, 1) := dk_42 (dk_at dksX4_hello_5 0 rfl rfl)
theorem dX4_hello_119 : decode cX4_hello 119 = .ok (.getfield 52, 3) := dk_180 0 52 (dk_at dksX4_hello_5 1 rfl rfl)
theorem dX4_hello_122 : decode cX4_hello 122 = .ok (.iload_n 1, 1) := dk_27 (dk_at dksX4_hello_5 4 rfl rfl)
theorem dX4_hello_123 : decode cX4_hello 123 = .ok (.aaload, 1) := dk_50 (dk_at dksX4_hello_5 5 rfl rfl)
theorem dX4_hello_124 : decode cX4_hello 124 = .ok (.iload_n 2, 1) := dk_28 (dk_at dksX4_hello_5 6 rfl rfl)
theorem dX4_hello_125 : decode cX4_hello 125 = .ok (.iload 7, 2) := dk_21 7 (dk_at dksX4_hello_5 7 rfl rfl)
theorem dX4_hello_127 : decode cX4_hello 127 = .ok (.iastore, 1) := dk_79 (dk_at dksX4_hello_5 9 rfl rfl)
theorem dX4_hello_128 : decode cX4_hello 128 = .ok (.aload_n 0, 1) := dk_42 (dk_at dksX4_hello_5 10 rfl rfl)
theorem dX4_hello_129 : decode cX4_hello 129 = .ok (.getfield 55, 3) := dk_180 0 55 (dk_at dksX4_hello_5 11 rfl rfl)
theorem dX4_hello_132 : decode cX4_hello 132 = .ok (.iload_n 1, 1) := dk_27 (dk_at dksX4_hello_5 14 rfl rfl)
theorem dX4_hello_133 : decode cX4_hello 133 = .ok (.aaload, 1) := dk_50 (dk_at dksX4_hello_5 15 rfl rfl)
theorem dX4_hello_134 : decode cX4_hello 134 = .ok (.iload_n 2, 1) := dk_28 (dk_at dksX4_hello_5 16 rfl rfl)
theorem dX4_hello_135 : decode cX4_hello 135 = .ok (.aload_n 0, 1) := dk_42 (dk_at dksX4_hello_5 17 rfl rfl)
theorem dX4_hello_136 : decode cX4_hello 136 = .ok (.getfield 129, 3) := dk_180 0 129 (dk_at dksX4_hello_5 18 rfl rfl)
theorem dX4_hello_139 : decode cX4_hello 139 = .ok (.iastore, 1) := dk_79 (dk_at dksX4_hello_5 21 rfl rfl)
theorem dX4_hello_140 : decode cX4_hello 140 = .ok (.aload_n 0, 1) := dk_42 (dk_at dksX4_hello_5 22 rfl rfl)
theorem dX4_hello_141 : decode cX4_hello 141 = .ok (.aload_n 0, 1) := dk_42 (dk_at dksX4_hello_5 23 rfl rfl)
theorem dX4_hello_142 : decode cX4_hello 142 = .ok (.getfield 13, 3) := dk_180 0 13 (dk_at dksX4_hello_6 0 rfl rfl)
theorem dX4_hello_145 : decode cX4_hello 145 = .ok (.iload_n 1, 1) := dk_27 (dk_at dksX4_hello_6 3 rfl rfl)
theorem dX4_hello_146 : decode cX4_hello 146 = .ok (.iaload, 1) := dk_46 (dk_at dksX4_hello_6 4 rfl rfl)
theorem dX4_hello_147 : decode cX4_hello 147 = .ok (.aload_n 0, 1) := dk_42 (dk_at dksX4_hello_6 5 rfl rfl)
theorem dX4_hello_148 : decode cX4_hello 148 = .ok (.getfield 37, 3) := dk_180 0 37 (dk_at dksX4_hello_6 6 rfl rfl)
theorem dX4_hello_151 : decode cX4_hello 151 = .ok (.iload_n 1, 1) := dk_27 (dk_at dksX4_hello_6 9 rfl rfl)
theorem dX4_hello_152 : decode cX4_hello 152 = .ok (.aaload, 1) := dk_50 (dk_at dksX4_hello_6 10 rfl rfl)
theorem dX4_hello_153 : decode cX4_hello 153 = .ok (.iload_n 2, 1) := dk_28 (dk_at dksX4_hello_6 11 rfl rfl)
theorem dX4_hello_154 : decode cX4_hello 154 = .ok (.iaload, 1) := dk_46 (dk_at dksX4_hello_6 12 rfl rfl)
theorem dX4_hello_155 : decode cX4_hello 155 = .ok (.iconst 1, 1) := dk_4 (dk_at dksX4_hello_6 13 rfl rfl)
theorem dX4_hello_156 : decode cX4_hello 156 = .ok (.bipush 6, 2) := dk_16 6 (dk_at dksX4_hello_6 14 rfl rfl)
theorem dX4_hello_158 : decode cX4_hello 158 = .ok (.newarray .int, 2) := dk_188_10 (dk_at dksX4_hello_6 16 rfl rfl)
theorem dX4_hello_160 : decode cX4_hello 160 = .ok (.dup, 1) := dk_89 (dk_at dksX4_hello_6 18 rfl rfl)
theorem dX4_hello_161 : decode cX4_hello 161 = .ok (.iconst 0, 1) := dk_3 (dk_at dksX4_hello_6 19 rfl rfl)
theorem dX4_hello_162 : decode cX4_hello 162 = .ok (.iload_n 3, 1) := dk_29 (dk_at dksX4_hello_6 20 rfl rfl)
theorem dX4_hello_163 : decode cX4_hello 163 = .ok (.iastore, 1) := dk_79 (dk_at dksX4_hello_6 21 rfl rfl)
theorem dX4_hello_164 : decode cX4_hello 164 = .ok (.dup, 1) := dk_89 (dk_at dksX4_hello_6 22 rfl rfl)
theorem dX4_hello_165 : decode cX4_hello 165 = .ok (.iconst 1, 1) := dk_4 (dk_at dksX4_hello_6 23 rfl rfl)
theorem dX4_hello_166 : decode cX4_hello 166 = .ok (.iload 4, 2) := dk_21 4 (dk_at dksX4_hello_7 0 rfl rfl)
theorem dX4_hello_168 : decode cX4_hello 168 = .ok (.invokestatic 122, 3) := dk_184 0 122 (dk_at dksX4_hello_7 2 rfl rfl)
theorem dX4_hello_171 : decode cX4_hello 171 = .ok (.iastore, 1) := dk_79 (dk_at dksX4_hello_7 5 rfl rfl)
theorem dX4_hello_172 : decode cX4_hello 172 = .ok (.dup, 1) := dk_89 (dk_at dksX4_hello_7 6 rfl rfl)
theorem dX4_hello_173 : decode cX4_hello 173 = .ok (.iconst 2, 1) := dk_5 (dk_at dksX4_hello_7 7 rfl rfl)
theorem dX4_hello_174 : decode cX4_hello 174 = .ok (.iload 5, 2) := dk_21 5 (dk_at dksX4_hello_7 8 rfl rfl)
theorem dX4_hello_176 : decode cX4_hello 176 = .ok (.iastore, 1) := dk_79 (dk_at dksX4_hello_7 10 rfl rfl)
theorem dX4_hello_177 : decode cX4_hello 177 = .ok (.dup, 1) := dk_89 (dk_at dksX4_hello_7 11 rfl rfl)
theorem dX4_hello_178 : decode cX4_hello 178 = .ok (.iconst 3, 1) := dk_6 (dk_at dksX4_hello_7 12 rfl rfl)
theorem dX4_hello_179 : decode cX4_hello 179 = .ok (.iload 6, 2) := dk_21 6 (dk_at dksX4_hello_7 13 rfl rfl)
theorem dX4_hello_181 : decode cX4_hello 181 = .ok (.iastore, 1) := dk_79 (dk_at dksX4_hello_7 15 rfl rfl)
theorem dX4_hello_182 : decode cX4_hello 182 = .ok (.dup, 1) := dk_89 (dk_at dksX4_hello_7 16 rfl rfl)
theorem dX4_hello_183 : decode cX4_hello 183 = .ok (.iconst 4, 1) := dk_7 (dk_at dksX4_hello_7 17 rfl rfl)
theorem dX4_hello_184 : decode cX4_hello 184 = .ok (.iload 7, 2) := dk_21 7 (dk_at dksX4_hello_7 18 rfl rfl)
theorem dX4_hello_186 : decode cX4_hello 186 = .ok (.iastore, 1) := dk_79 (dk_at dksX4_hello_7 20 rfl rfl)
theorem dX4_hello_187 : decode cX4_hello 187 = .ok (.dup, 1) := dk_89 (dk_at dksX4_hello_7 21 rfl rfl)
theorem dX4_hello_188 : decode cX4_hello 188 = .ok (.iconst 5, 1) := dk_8 (dk_at dksX4_hello_7 22 rfl rfl)
theorem dX4_hello_189 : decode cX4_hello 189 = .ok (.aload_n 0, 1) := dk_42 (dk_at dksX4_hello_7 23 rfl rfl)
theorem dX4_hello_190 : decode cX4_hello 190 = .ok (.iload_n 1, 1) := dk_27 (dk_at dksX4_hello_8 0 rfl rfl)
theorem dX4_hello_191 : decode cX4_hello 191 = .ok (.iload_n 2, 1) := dk_28 (dk_at dksX4_hello_8 1 rfl rfl)
theorem dX4_hello_192 : decode cX4_hello 192 = .ok (.invokevirtual 158, 3) := dk_182 0 158 (dk_at dksX4_hello_8 2 rfl rfl)
theorem dX4_hello_195 : decode cX4_hello 195 = .ok (.ifCond .eq 32, 3) := dk_153 0 32 (dk_at dksX4_hello_8 5 rfl rfl)
theorem dX4_hello_198 : decode cX4_hello 198 = .ok (.iconst 3, 1) := dk_6 (dk_at dksX4_hello_8 8 rfl rfl)
theorem dX4_hello_199 : decode cX4_hello 199 = .ok (.newarray .int, 2) := dk_188_10 (dk_at dksX4_hello_8 9 rfl rfl)
theorem dX4_hello_201 : decode cX4_hello 201 = .ok (.dup, 1) := dk_89 (dk_at dksX4_hello_8 11 rfl rfl)
theorem dX4_hello_202 : decode cX4_hello 202 = .ok (.iconst 0, 1) := dk_3 (dk_at dksX4_hello_8 12 rfl rfl)
theorem dX4_hello_203 : decode cX4_hello 203 = .ok (.iconst 2, 1) := dk_5 (dk_at dksX4_hello_8 13 rfl rfl)
theorem dX4_hello_204 : decode cX4_hello 204 = .ok (.iastore, 1) := dk_79 (dk_at dksX4_hello_8 14 rfl rfl)
theorem dX4_hello_205 : decode cX4_hello 205 = .ok (.dup, 1) := dk_89 (dk_at dksX4_hello_8 15 rfl rfl)
theorem dX4_hello_206 : decode cX4_hello 206 = .ok (.iconst 1, 1) := dk_4 (dk_at dksX4_hello_8 16 rfl rfl)
theorem dX4_hello_207 : decode cX4_hello 207 = .ok (.aload_n 0, 1) := dk_42 (dk_at dksX4_hello_8 17 rfl rfl)
theorem dX4_hello_208 : decode cX4_hello 208 = .ok (.getfield 58, 3) := dk_180 0 58 (dk_at dksX4_hello_8 18 rfl rfl)
theorem dX4_hello_211 : decode cX4_hello 211 = .ok (.iload_n 1, 1) := dk_27 (dk_at dksX4_hello_8 21 rfl rfl)
theorem dX4_hello_212 : decode cX4_hello 212 = .ok (.aaload, 1) := dk_50 (dk_at dksX4_hello_8 22 rfl rfl)
theorem dX4_hello_213 : decode cX4_hello 213 = .ok (.iload_n 2, 1) := dk_28 (dk_at dksX4_hello_8 23 rfl rfl)
theorem dX4_hello_214 : decode cX4_hello 214 = .ok (.iaload, 1) := dk_46 (dk_at dksX4_hello_9 0 rfl rfl)
theorem dX4_hello_215 : decode cX4_hello 215 = .ok (.iastore, 1) := dk_79 (dk_at dksX4_hello_9 1 rfl rfl)
theorem dX4_hello_216 : decode cX4_hello 216 = .ok (.dup, 1) := dk_89 (dk_at dksX4_hello_9 2 rfl rfl)
theorem dX4_hello_217 : decode cX4_hello 217 = .ok (.iconst 2, 1) := dk_5 (dk_at dksX4_hello_9 3 rfl rfl)
theorem dX4_hello_218 : decode cX4_hello 218 = .ok (.iload 7, 2) := dk_21 7 (dk_at dksX4_hello_9 4 rfl rfl)
theorem dX4_hello_220 : decode cX4_hello 220 = .ok (.iastore, 1) := dk_79 (dk_at dksX4_hello_9 6 rfl rfl)
theorem dX4_hello_221 : decode cX4_hello 221 = .ok (.invokestatic 138, 3) := dk_184 0 138 (dk_at dksX4_hello_9 7 rfl rfl)
theorem dX4_hello_224 : decode cX4_hello 224 = .ok (.goto 4, 3) := dk_167 0 4 (dk_at dksX4_hello_9 10 rfl rfl)
theorem dX4_hello_227 : decode cX4_hello 227 = .ok (.iconst 0, 1) := dk_3 (dk_at dksX4_hello_9 13 rfl rfl)
theorem dX4_hello_228 : decode cX4_hello 228 = .ok (.iastore, 1) := dk_79 (dk_at dksX4_hello_9 14 rfl rfl)
theorem dX4_hello_229 : decode cX4_hello 229 = .ok (.invokevirtual 162, 3) := dk_182 0 162 (dk_at dksX4_hello_9 15 rfl rfl)
theorem dX4_hello_232 : decode cX4_hello 232 = .ok (.iload_n 3, 1) := dk_29 (dk_at dksX4_hello_9 18 rfl rfl)
theorem dX4_hello_233 : decode cX4_hello 233 = .ok (.ireturn, 1) := dk_172 (dk_at dksX4_hello_9 19 rfl rfl)
abbrev cX4_fresh : ByteArray := prog_8_method_16_code
def yX4_fresh : MethodName := ⟨RX4, "fresh", "(I)I"⟩
def dkwX4_fresh_0 : List UInt8 := [4, 20, 0, 125, 26, 133, 105, 20, 0, 127, 113, 136, 96, 172]
abbrev dktX4_fresh_0 : List UInt8 := dkwX4_fresh_0 ++ []
theorem dksX4_fresh_0 : cX4_fresh.data.toList.drop 0 = dktX4_fresh_0 := by decide +kernel
theorem dX4_fresh_0 : decode cX4_fresh 0 = .ok (.iconst 1, 1) := dk_4 (dk_at dksX4_fresh_0 0 rfl rfl)
theorem dX4_fresh_1 : decode cX4_fresh 1 = .ok (.ldc2_w 125, 3) := dk_20 0 125 (dk_at dksX4_fresh_0 1 rfl rfl)
theorem dX4_fresh_4 : decode cX4_fresh 4 = .ok (.iload_n 0, 1) := dk_26 (dk_at dksX4_fresh_0 4 rfl rfl)
theorem dX4_fresh_5 : decode cX4_fresh 5 = .ok (.i2l, 1) := dk_133 (dk_at dksX4_fresh_0 5 rfl rfl)
theorem dX4_fresh_6 : decode cX4_fresh 6 = .ok (.lmul, 1) := dk_105 (dk_at dksX4_fresh_0 6 rfl rfl)
theorem dX4_fresh_7 : decode cX4_fresh 7 = .ok (.ldc2_w 127, 3) := dk_20 0 127 (dk_at dksX4_fresh_0 7 rfl rfl)
theorem dX4_fresh_10 : decode cX4_fresh 10 = .ok (.lrem, 1) := dk_113 (dk_at dksX4_fresh_0 10 rfl rfl)
theorem dX4_fresh_11 : decode cX4_fresh 11 = .ok (.l2i, 1) := dk_136 (dk_at dksX4_fresh_0 11 rfl rfl)
theorem dX4_fresh_12 : decode cX4_fresh 12 = .ok (.iadd, 1) := dk_96 (dk_at dksX4_fresh_0 12 rfl rfl)
theorem dX4_fresh_13 : decode cX4_fresh 13 = .ok (.ireturn, 1) := dk_172 (dk_at dksX4_fresh_0 13 rfl rfl)
abbrev cX4_keyOf : ByteArray := prog_8_method_21_code
def yX4_keyOf : MethodName := ⟨RX4, "keyOf", "(III)I"⟩
def dkwX4_keyOf_1 : List UInt8 := [28, 184, 0, 132, 184, 0, 135, 79, 184, 0, 138, 172]
abbrev dktX4_keyOf_1 : List UInt8 := dkwX4_keyOf_1 ++ []
def dkwX4_keyOf_0 : List UInt8 := [6, 188, 10, 89, 3, 4, 79, 89, 4, 29, 28, 184, 0, 132, 184, 0, 135, 79, 89, 5, 27, 184, 0, 118]
abbrev dktX4_keyOf_0 : List UInt8 := dkwX4_keyOf_0 ++ dktX4_keyOf_1
theorem dksX4_keyOf_0 : cX4_keyOf.data.toList.drop 0 = dktX4_keyOf_0 := by decide +kernel
theorem dksX4_keyOf_1 : cX4_keyOf.data.toList.drop 24 = dktX4_keyOf_1 := dk_seg dksX4_keyOf_0 24 rfl rfl
theorem dX4_keyOf_0 : decode cX4_keyOf 0 = .ok (.iconst 3, 1) := dk_6 (dk_at dksX4_keyOf_0 0 rfl rfl)
theorem dX4_keyOf_1 : decode cX4_keyOf 1 = .ok (.newarray .int, 2) := dk_188_10 (dk_at dksX4_keyOf_0 1 rfl rfl)
theorem dX4_keyOf_3 : decode cX4_keyOf 3 = .ok (.dup, 1) := dk_89 (dk_at dksX4_keyOf_0 3 rfl rfl)
theorem dX4_keyOf_4 : decode cX4_keyOf 4 = .ok (.iconst 0, 1) := dk_3 (dk_at dksX4_keyOf_0 4 rfl rfl)
theorem dX4_keyOf_5 : decode cX4_keyOf 5 = .ok (.iconst 1, 1) := dk_4 (dk_at dksX4_keyOf_0 5 rfl rfl)
theorem dX4_keyOf_6 : decode cX4_keyOf 6 = .ok (.iastore, 1) := dk_79 (dk_at dksX4_keyOf_0 6 rfl rfl)
theorem dX4_keyOf_7 : decode cX4_keyOf 7 = .ok (.dup, 1) := dk_89 (dk_at dksX4_keyOf_0 7 rfl rfl)
theorem dX4_keyOf_8 : decode cX4_keyOf 8 = .ok (.iconst 1, 1) := dk_4 (dk_at dksX4_keyOf_0 8 rfl rfl)
theorem dX4_keyOf_9 : decode cX4_keyOf 9 = .ok (.iload_n 3, 1) := dk_29 (dk_at dksX4_keyOf_0 9 rfl rfl)
theorem dX4_keyOf_10 : decode cX4_keyOf 10 = .ok (.iload_n 2, 1) := dk_28 (dk_at dksX4_keyOf_0 10 rfl rfl)
theorem dX4_keyOf_11 : decode cX4_keyOf 11 = .ok (.invokestatic 132, 3) := dk_184 0 132 (dk_at dksX4_keyOf_0 11 rfl rfl)
theorem dX4_keyOf_14 : decode cX4_keyOf 14 = .ok (.invokestatic 135, 3) := dk_184 0 135 (dk_at dksX4_keyOf_0 14 rfl rfl)
theorem dX4_keyOf_17 : decode cX4_keyOf 17 = .ok (.iastore, 1) := dk_79 (dk_at dksX4_keyOf_0 17 rfl rfl)
theorem dX4_keyOf_18 : decode cX4_keyOf 18 = .ok (.dup, 1) := dk_89 (dk_at dksX4_keyOf_0 18 rfl rfl)
theorem dX4_keyOf_19 : decode cX4_keyOf 19 = .ok (.iconst 2, 1) := dk_5 (dk_at dksX4_keyOf_0 19 rfl rfl)
theorem dX4_keyOf_20 : decode cX4_keyOf 20 = .ok (.iload_n 1, 1) := dk_27 (dk_at dksX4_keyOf_0 20 rfl rfl)
theorem dX4_keyOf_21 : decode cX4_keyOf 21 = .ok (.invokestatic 118, 3) := dk_184 0 118 (dk_at dksX4_keyOf_0 21 rfl rfl)
theorem dX4_keyOf_24 : decode cX4_keyOf 24 = .ok (.iload_n 2, 1) := dk_28 (dk_at dksX4_keyOf_1 0 rfl rfl)
theorem dX4_keyOf_25 : decode cX4_keyOf 25 = .ok (.invokestatic 132, 3) := dk_184 0 132 (dk_at dksX4_keyOf_1 1 rfl rfl)
theorem dX4_keyOf_28 : decode cX4_keyOf 28 = .ok (.invokestatic 135, 3) := dk_184 0 135 (dk_at dksX4_keyOf_1 4 rfl rfl)
theorem dX4_keyOf_31 : decode cX4_keyOf 31 = .ok (.iastore, 1) := dk_79 (dk_at dksX4_keyOf_1 7 rfl rfl)
theorem dX4_keyOf_32 : decode cX4_keyOf 32 = .ok (.invokestatic 138, 3) := dk_184 0 138 (dk_at dksX4_keyOf_1 8 rfl rfl)
theorem dX4_keyOf_35 : decode cX4_keyOf 35 = .ok (.ireturn, 1) := dk_172 (dk_at dksX4_keyOf_1 11 rfl rfl)
abbrev cX4_nameOf : ByteArray := prog_8_method_15_code
def yX4_nameOf : MethodName := ⟨RX4, "nameOf", "(I)I"⟩
def dkwX4_nameOf_0 : List UInt8 := [26, 184, 0, 118, 184, 0, 122, 172]
abbrev dktX4_nameOf_0 : List UInt8 := dkwX4_nameOf_0 ++ []
theorem dksX4_nameOf_0 : cX4_nameOf.data.toList.drop 0 = dktX4_nameOf_0 := by decide +kernel
theorem dX4_nameOf_0 : decode cX4_nameOf 0 = .ok (.iload_n 0, 1) := dk_26 (dk_at dksX4_nameOf_0 0 rfl rfl)
theorem dX4_nameOf_1 : decode cX4_nameOf 1 = .ok (.invokestatic 118, 3) := dk_184 0 118 (dk_at dksX4_nameOf_0 1 rfl rfl)
theorem dX4_nameOf_4 : decode cX4_nameOf 4 = .ok (.invokestatic 122, 3) := dk_184 0 122 (dk_at dksX4_nameOf_0 4 rfl rfl)
theorem dX4_nameOf_7 : decode cX4_nameOf 7 = .ok (.ireturn, 1) := dk_172 (dk_at dksX4_nameOf_0 7 rfl rfl)
abbrev cX4_secretOf : ByteArray := prog_8_method_14_code
def yX4_secretOf : MethodName := ⟨RX4, "secretOf", "(I)I"⟩
def dkwX4_secretOf_0 : List UInt8 := [17, 0, 211, 17, 1, 51, 26, 104, 96, 172]
abbrev dktX4_secretOf_0 : List UInt8 := dkwX4_secretOf_0 ++ []
theorem dksX4_secretOf_0 : cX4_secretOf.data.toList.drop 0 = dktX4_secretOf_0 := by decide +kernel
theorem dX4_secretOf_0 : decode cX4_secretOf 0 = .ok (.sipush 211, 3) := dk_17 0 211 (dk_at dksX4_secretOf_0 0 rfl rfl)
theorem dX4_secretOf_3 : decode cX4_secretOf 3 = .ok (.sipush 307, 3) := dk_17 1 51 (dk_at dksX4_secretOf_0 3 rfl rfl)
theorem dX4_secretOf_6 : decode cX4_secretOf 6 = .ok (.iload_n 0, 1) := dk_26 (dk_at dksX4_secretOf_0 6 rfl rfl)
theorem dX4_secretOf_7 : decode cX4_secretOf 7 = .ok (.imul, 1) := dk_104 (dk_at dksX4_secretOf_0 7 rfl rfl)
theorem dX4_secretOf_8 : decode cX4_secretOf 8 = .ok (.iadd, 1) := dk_96 (dk_at dksX4_secretOf_0 8 rfl rfl)
theorem dX4_secretOf_9 : decode cX4_secretOf 9 = .ok (.ireturn, 1) := dk_172 (dk_at dksX4_secretOf_0 9 rfl rfl)
abbrev cX4_open : ByteArray := prog_8_method_9_code
def yX4_open : MethodName := ⟨RX4, "open", "(I)I"⟩
def dkwX4_open_0 : List UInt8 := [16, 7, 26, 184, 0, 104, 172]
abbrev dktX4_open_0 : List UInt8 := dkwX4_open_0 ++ []
theorem dksX4_open_0 : cX4_open.data.toList.drop 0 = dktX4_open_0 := by decide +kernel
theorem dX4_open_0 : decode cX4_open 0 = .ok (.bipush 7, 2) := dk_16 7 (dk_at dksX4_open_0 0 rfl rfl)
theorem dX4_open_2 : decode cX4_open 2 = .ok (.iload_n 0, 1) := dk_26 (dk_at dksX4_open_0 2 rfl rfl)
theorem dX4_open_3 : decode cX4_open 3 = .ok (.invokestatic 104, 3) := dk_184 0 104 (dk_at dksX4_open_0 3 rfl rfl)
theorem dX4_open_6 : decode cX4_open 6 = .ok (.ireturn, 1) := dk_172 (dk_at dksX4_open_0 6 rfl rfl)
abbrev cX4_power : ByteArray := prog_8_method_8_code
def yX4_power : MethodName := ⟨RX4, "power", "(II)I"⟩
def dkwX4_power_2 : List UInt8 := [21, 6, 4, 122, 54, 6, 167, 255, 217, 32, 136, 172]
abbrev dktX4_power_2 : List UInt8 := dkwX4_power_2 ++ []
def dkwX4_power_1 : List UInt8 := [160, 0, 12, 32, 22, 4, 105, 20, 0, 102, 113, 65, 22, 4, 22, 4, 105, 20, 0, 102, 113, 55, 4]
abbrev dktX4_power_1 : List UInt8 := dkwX4_power_1 ++ dktX4_power_2
def dkwX4_power_0 : List UInt8 := [10, 65, 26, 17, 7, 247, 112, 133, 55, 4, 27, 54, 6, 21, 6, 158, 0, 40, 21, 6, 4, 126, 4]
abbrev dktX4_power_0 : List UInt8 := dkwX4_power_0 ++ dktX4_power_1
theorem dksX4_power_0 : cX4_power.data.toList.drop 0 = dktX4_power_0 := by decide +kernel
theorem dksX4_power_1 : cX4_power.data.toList.drop 23 = dktX4_power_1 := dk_seg dksX4_power_0 23 rfl rfl
theorem dksX4_power_2 : cX4_power.data.toList.drop 46 = dktX4_power_2 := dk_seg dksX4_power_1 23 rfl rfl
theorem dX4_power_0 : decode cX4_power 0 = .ok (.lconst 1, 1) := dk_10 (dk_at dksX4_power_0 0 rfl rfl)
theorem dX4_power_1 : decode cX4_power 1 = .ok (.lstore_n 2, 1) := dk_65 (dk_at dksX4_power_0 1 rfl rfl)
theorem dX4_power_2 : decode cX4_power 2 = .ok (.iload_n 0, 1) := dk_26 (dk_at dksX4_power_0 2 rfl rfl)
theorem dX4_power_3 : decode cX4_power 3 = .ok (.sipush 2039, 3) := dk_17 7 247 (dk_at dksX4_power_0 3 rfl rfl)
theorem dX4_power_6 : decode cX4_power 6 = .ok (.irem, 1) := dk_112 (dk_at dksX4_power_0 6 rfl rfl)
theorem dX4_power_7 : decode cX4_power 7 = .ok (.i2l, 1) := dk_133 (dk_at dksX4_power_0 7 rfl rfl)
theorem dX4_power_8 : decode cX4_power 8 = .ok (.lstore 4, 2) := dk_55 4 (dk_at dksX4_power_0 8 rfl rfl)
theorem dX4_power_10 : decode cX4_power 10 = .ok (.iload_n 1, 1) := dk_27 (dk_at dksX4_power_0 10 rfl rfl)
theorem dX4_power_11 : decode cX4_power 11 = .ok (.istore 6, 2) := dk_54 6 (dk_at dksX4_power_0 11 rfl rfl)
theorem dX4_power_13 : decode cX4_power 13 = .ok (.iload 6, 2) := dk_21 6 (dk_at dksX4_power_0 13 rfl rfl)
theorem dX4_power_15 : decode cX4_power 15 = .ok (.ifCond .le 40, 3) := dk_158 0 40 (dk_at dksX4_power_0 15 rfl rfl)
theorem dX4_power_18 : decode cX4_power 18 = .ok (.iload 6, 2) := dk_21 6 (dk_at dksX4_power_0 18 rfl rfl)
theorem dX4_power_20 : decode cX4_power 20 = .ok (.iconst 1, 1) := dk_4 (dk_at dksX4_power_0 20 rfl rfl)
theorem dX4_power_21 : decode cX4_power 21 = .ok (.iand, 1) := dk_126 (dk_at dksX4_power_0 21 rfl rfl)
theorem dX4_power_22 : decode cX4_power 22 = .ok (.iconst 1, 1) := dk_4 (dk_at dksX4_power_0 22 rfl rfl)
theorem dX4_power_23 : decode cX4_power 23 = .ok (.if_icmp .ne 12, 3) := dk_160 0 12 (dk_at dksX4_power_1 0 rfl rfl)
theorem dX4_power_26 : decode cX4_power 26 = .ok (.lload_n 2, 1) := dk_32 (dk_at dksX4_power_1 3 rfl rfl)
theorem dX4_power_27 : decode cX4_power 27 = .ok (.lload 4, 2) := dk_22 4 (dk_at dksX4_power_1 4 rfl rfl)
theorem dX4_power_29 : decode cX4_power 29 = .ok (.lmul, 1) := dk_105 (dk_at dksX4_power_1 6 rfl rfl)
theorem dX4_power_30 : decode cX4_power 30 = .ok (.ldc2_w 102, 3) := dk_20 0 102 (dk_at dksX4_power_1 7 rfl rfl)
theorem dX4_power_33 : decode cX4_power 33 = .ok (.lrem, 1) := dk_113 (dk_at dksX4_power_1 10 rfl rfl)
theorem dX4_power_34 : decode cX4_power 34 = .ok (.lstore_n 2, 1) := dk_65 (dk_at dksX4_power_1 11 rfl rfl)
theorem dX4_power_35 : decode cX4_power 35 = .ok (.lload 4, 2) := dk_22 4 (dk_at dksX4_power_1 12 rfl rfl)
theorem dX4_power_37 : decode cX4_power 37 = .ok (.lload 4, 2) := dk_22 4 (dk_at dksX4_power_1 14 rfl rfl)
theorem dX4_power_39 : decode cX4_power 39 = .ok (.lmul, 1) := dk_105 (dk_at dksX4_power_1 16 rfl rfl)
theorem dX4_power_40 : decode cX4_power 40 = .ok (.ldc2_w 102, 3) := dk_20 0 102 (dk_at dksX4_power_1 17 rfl rfl)
theorem dX4_power_43 : decode cX4_power 43 = .ok (.lrem, 1) := dk_113 (dk_at dksX4_power_1 20 rfl rfl)
theorem dX4_power_44 : decode cX4_power 44 = .ok (.lstore 4, 2) := dk_55 4 (dk_at dksX4_power_1 21 rfl rfl)
theorem dX4_power_46 : decode cX4_power 46 = .ok (.iload 6, 2) := dk_21 6 (dk_at dksX4_power_2 0 rfl rfl)
theorem dX4_power_48 : decode cX4_power 48 = .ok (.iconst 1, 1) := dk_4 (dk_at dksX4_power_2 2 rfl rfl)
theorem dX4_power_49 : decode cX4_power 49 = .ok (.ishr, 1) := dk_122 (dk_at dksX4_power_2 3 rfl rfl)
theorem dX4_power_50 : decode cX4_power 50 = .ok (.istore 6, 2) := dk_54 6 (dk_at dksX4_power_2 4 rfl rfl)
theorem dX4_power_52 : decode cX4_power 52 = .ok (.goto (-39), 3) := dk_167 255 217 (dk_at dksX4_power_2 6 rfl rfl)
theorem dX4_power_55 : decode cX4_power 55 = .ok (.lload_n 2, 1) := dk_32 (dk_at dksX4_power_2 9 rfl rfl)
theorem dX4_power_56 : decode cX4_power 56 = .ok (.l2i, 1) := dk_136 (dk_at dksX4_power_2 10 rfl rfl)
theorem dX4_power_57 : decode cX4_power 57 = .ok (.ireturn, 1) := dk_172 (dk_at dksX4_power_2 11 rfl rfl)
abbrev cX4_both : ByteArray := prog_8_method_10_code
def yX4_both : MethodName := ⟨RX4, "both", "(II)I"⟩
def dkwX4_both_0 : List UInt8 := [27, 26, 184, 0, 104, 172]
abbrev dktX4_both_0 : List UInt8 := dkwX4_both_0 ++ []
theorem dksX4_both_0 : cX4_both.data.toList.drop 0 = dktX4_both_0 := by decide +kernel
theorem dX4_both_0 : decode cX4_both 0 = .ok (.iload_n 1, 1) := dk_27 (dk_at dksX4_both_0 0 rfl rfl)
theorem dX4_both_1 : decode cX4_both 1 = .ok (.iload_n 0, 1) := dk_26 (dk_at dksX4_both_0 1 rfl rfl)
theorem dX4_both_2 : decode cX4_both 2 = .ok (.invokestatic 104, 3) := dk_184 0 104 (dk_at dksX4_both_0 2 rfl rfl)
theorem dX4_both_5 : decode cX4_both 5 = .ok (.ireturn, 1) := dk_172 (dk_at dksX4_both_0 5 rfl rfl)
abbrev cX4_mix : ByteArray := prog_8_method_11_code
def yX4_mix : MethodName := ⟨RX4, "mix", "([I)I"⟩
def dkwX4_mix_2 : List UInt8 := [167, 255, 223, 31, 9, 148, 154, 0, 7, 4, 167, 0, 5, 31, 136, 172]
abbrev dktX4_mix_2 : List UInt8 := dkwX4_mix_2 ++ []
def dkwX4_mix_1 : List UInt8 := [54, 6, 20, 0, 110, 31, 105, 21, 6, 133, 97, 20, 0, 89, 97, 184, 0, 112, 64, 132, 5, 1]
abbrev dktX4_mix_1 : List UInt8 := dkwX4_mix_1 ++ dktX4_mix_2
def dkwX4_mix_0 : List UInt8 := [20, 0, 108, 64, 42, 78, 45, 190, 54, 4, 3, 54, 5, 21, 5, 21, 4, 162, 0, 32, 45, 21, 5, 46]
abbrev dktX4_mix_0 : List UInt8 := dkwX4_mix_0 ++ dktX4_mix_1
theorem dksX4_mix_0 : cX4_mix.data.toList.drop 0 = dktX4_mix_0 := by decide +kernel
theorem dksX4_mix_1 : cX4_mix.data.toList.drop 24 = dktX4_mix_1 := dk_seg dksX4_mix_0 24 rfl rfl
theorem dksX4_mix_2 : cX4_mix.data.toList.drop 46 = dktX4_mix_2 := dk_seg dksX4_mix_1 22 rfl rfl
theorem dX4_mix_0 : decode cX4_mix 0 = .ok (.ldc2_w 108, 3) := dk_20 0 108 (dk_at dksX4_mix_0 0 rfl rfl)
theorem dX4_mix_3 : decode cX4_mix 3 = .ok (.lstore_n 1, 1) := dk_64 (dk_at dksX4_mix_0 3 rfl rfl)
theorem dX4_mix_4 : decode cX4_mix 4 = .ok (.aload_n 0, 1) := dk_42 (dk_at dksX4_mix_0 4 rfl rfl)
theorem dX4_mix_5 : decode cX4_mix 5 = .ok (.astore_n 3, 1) := dk_78 (dk_at dksX4_mix_0 5 rfl rfl)
theorem dX4_mix_6 : decode cX4_mix 6 = .ok (.aload_n 3, 1) := dk_45 (dk_at dksX4_mix_0 6 rfl rfl)
theorem dX4_mix_7 : decode cX4_mix 7 = .ok (.arraylength, 1) := dk_190 (dk_at dksX4_mix_0 7 rfl rfl)
theorem dX4_mix_8 : decode cX4_mix 8 = .ok (.istore 4, 2) := dk_54 4 (dk_at dksX4_mix_0 8 rfl rfl)
theorem dX4_mix_10 : decode cX4_mix 10 = .ok (.iconst 0, 1) := dk_3 (dk_at dksX4_mix_0 10 rfl rfl)
theorem dX4_mix_11 : decode cX4_mix 11 = .ok (.istore 5, 2) := dk_54 5 (dk_at dksX4_mix_0 11 rfl rfl)
theorem dX4_mix_13 : decode cX4_mix 13 = .ok (.iload 5, 2) := dk_21 5 (dk_at dksX4_mix_0 13 rfl rfl)
theorem dX4_mix_15 : decode cX4_mix 15 = .ok (.iload 4, 2) := dk_21 4 (dk_at dksX4_mix_0 15 rfl rfl)
theorem dX4_mix_17 : decode cX4_mix 17 = .ok (.if_icmp .ge 32, 3) := dk_162 0 32 (dk_at dksX4_mix_0 17 rfl rfl)
theorem dX4_mix_20 : decode cX4_mix 20 = .ok (.aload_n 3, 1) := dk_45 (dk_at dksX4_mix_0 20 rfl rfl)
theorem dX4_mix_21 : decode cX4_mix 21 = .ok (.iload 5, 2) := dk_21 5 (dk_at dksX4_mix_0 21 rfl rfl)
theorem dX4_mix_23 : decode cX4_mix 23 = .ok (.iaload, 1) := dk_46 (dk_at dksX4_mix_0 23 rfl rfl)
theorem dX4_mix_24 : decode cX4_mix 24 = .ok (.istore 6, 2) := dk_54 6 (dk_at dksX4_mix_1 0 rfl rfl)
theorem dX4_mix_26 : decode cX4_mix 26 = .ok (.ldc2_w 110, 3) := dk_20 0 110 (dk_at dksX4_mix_1 2 rfl rfl)
theorem dX4_mix_29 : decode cX4_mix 29 = .ok (.lload_n 1, 1) := dk_31 (dk_at dksX4_mix_1 5 rfl rfl)
theorem dX4_mix_30 : decode cX4_mix 30 = .ok (.lmul, 1) := dk_105 (dk_at dksX4_mix_1 6 rfl rfl)
theorem dX4_mix_31 : decode cX4_mix 31 = .ok (.iload 6, 2) := dk_21 6 (dk_at dksX4_mix_1 7 rfl rfl)
theorem dX4_mix_33 : decode cX4_mix 33 = .ok (.i2l, 1) := dk_133 (dk_at dksX4_mix_1 9 rfl rfl)
theorem dX4_mix_34 : decode cX4_mix 34 = .ok (.ladd, 1) := dk_97 (dk_at dksX4_mix_1 10 rfl rfl)
theorem dX4_mix_35 : decode cX4_mix 35 = .ok (.ldc2_w 89, 3) := dk_20 0 89 (dk_at dksX4_mix_1 11 rfl rfl)
theorem dX4_mix_38 : decode cX4_mix 38 = .ok (.ladd, 1) := dk_97 (dk_at dksX4_mix_1 14 rfl rfl)
theorem dX4_mix_39 : decode cX4_mix 39 = .ok (.invokestatic 112, 3) := dk_184 0 112 (dk_at dksX4_mix_1 15 rfl rfl)
theorem dX4_mix_42 : decode cX4_mix 42 = .ok (.lstore_n 1, 1) := dk_64 (dk_at dksX4_mix_1 18 rfl rfl)
theorem dX4_mix_43 : decode cX4_mix 43 = .ok (.iinc 5 1, 3) := dk_132 5 1 (dk_at dksX4_mix_1 19 rfl rfl)
theorem dX4_mix_46 : decode cX4_mix 46 = .ok (.goto (-33), 3) := dk_167 255 223 (dk_at dksX4_mix_2 0 rfl rfl)
theorem dX4_mix_49 : decode cX4_mix 49 = .ok (.lload_n 1, 1) := dk_31 (dk_at dksX4_mix_2 3 rfl rfl)
theorem dX4_mix_50 : decode cX4_mix 50 = .ok (.lconst 0, 1) := dk_9 (dk_at dksX4_mix_2 4 rfl rfl)
theorem dX4_mix_51 : decode cX4_mix 51 = .ok (.lcmp, 1) := dk_148 (dk_at dksX4_mix_2 5 rfl rfl)
theorem dX4_mix_52 : decode cX4_mix 52 = .ok (.ifCond .ne 7, 3) := dk_154 0 7 (dk_at dksX4_mix_2 6 rfl rfl)
theorem dX4_mix_55 : decode cX4_mix 55 = .ok (.iconst 1, 1) := dk_4 (dk_at dksX4_mix_2 9 rfl rfl)
theorem dX4_mix_56 : decode cX4_mix 56 = .ok (.goto 5, 3) := dk_167 0 5 (dk_at dksX4_mix_2 10 rfl rfl)
theorem dX4_mix_59 : decode cX4_mix 59 = .ok (.lload_n 1, 1) := dk_31 (dk_at dksX4_mix_2 13 rfl rfl)
theorem dX4_mix_60 : decode cX4_mix 60 = .ok (.l2i, 1) := dk_136 (dk_at dksX4_mix_2 14 rfl rfl)
theorem dX4_mix_61 : decode cX4_mix 61 = .ok (.ireturn, 1) := dk_172 (dk_at dksX4_mix_2 15 rfl rfl)
abbrev cX4_hasCookie : ByteArray := prog_8_method_22_code
def yX4_hasCookie : MethodName := ⟨RX4, "hasCookie", "(II)Z"⟩
def dkwX4_hasCookie_1 : List UInt8 := [100, 16, 60, 162, 0, 7, 4, 167, 0, 4, 3, 172]
abbrev dktX4_hasCookie_1 : List UInt8 := dkwX4_hasCookie_1 ++ []
def dkwX4_hasCookie_0 : List UInt8 := [42, 180, 0, 58, 27, 50, 28, 46, 2, 159, 0, 25, 42, 180, 0, 129, 42, 180, 0, 61, 27, 50, 28, 46]
abbrev dktX4_hasCookie_0 : List UInt8 := dkwX4_hasCookie_0 ++ dktX4_hasCookie_1
theorem dksX4_hasCookie_0 : cX4_hasCookie.data.toList.drop 0 = dktX4_hasCookie_0 := by decide +kernel
theorem dksX4_hasCookie_1 : cX4_hasCookie.data.toList.drop 24 = dktX4_hasCookie_1 := dk_seg dksX4_hasCookie_0 24 rfl rfl
theorem dX4_hasCookie_0 : decode cX4_hasCookie 0 = .ok (.aload_n 0, 1) := dk_42 (dk_at dksX4_hasCookie_0 0 rfl rfl)
theorem dX4_hasCookie_1 : decode cX4_hasCookie 1 = .ok (.getfield 58, 3) := dk_180 0 58 (dk_at dksX4_hasCookie_0 1 rfl rfl)
theorem dX4_hasCookie_4 : decode cX4_hasCookie 4 = .ok (.iload_n 1, 1) := dk_27 (dk_at dksX4_hasCookie_0 4 rfl rfl)
theorem dX4_hasCookie_5 : decode cX4_hasCookie 5 = .ok (.aaload, 1) := dk_50 (dk_at dksX4_hasCookie_0 5 rfl rfl)
theorem dX4_hasCookie_6 : decode cX4_hasCookie 6 = .ok (.iload_n 2, 1) := dk_28 (dk_at dksX4_hasCookie_0 6 rfl rfl)
theorem dX4_hasCookie_7 : decode cX4_hasCookie 7 = .ok (.iaload, 1) := dk_46 (dk_at dksX4_hasCookie_0 7 rfl rfl)
theorem dX4_hasCookie_8 : decode cX4_hasCookie 8 = .ok (.iconst (-1), 1) := dk_2 (dk_at dksX4_hasCookie_0 8 rfl rfl)
theorem dX4_hasCookie_9 : decode cX4_hasCookie 9 = .ok (.if_icmp .eq 25, 3) := dk_159 0 25 (dk_at dksX4_hasCookie_0 9 rfl rfl)
theorem dX4_hasCookie_12 : decode cX4_hasCookie 12 = .ok (.aload_n 0, 1) := dk_42 (dk_at dksX4_hasCookie_0 12 rfl rfl)
theorem dX4_hasCookie_13 : decode cX4_hasCookie 13 = .ok (.getfield 129, 3) := dk_180 0 129 (dk_at dksX4_hasCookie_0 13 rfl rfl)
theorem dX4_hasCookie_16 : decode cX4_hasCookie 16 = .ok (.aload_n 0, 1) := dk_42 (dk_at dksX4_hasCookie_0 16 rfl rfl)
theorem dX4_hasCookie_17 : decode cX4_hasCookie 17 = .ok (.getfield 61, 3) := dk_180 0 61 (dk_at dksX4_hasCookie_0 17 rfl rfl)
theorem dX4_hasCookie_20 : decode cX4_hasCookie 20 = .ok (.iload_n 1, 1) := dk_27 (dk_at dksX4_hasCookie_0 20 rfl rfl)
theorem dX4_hasCookie_21 : decode cX4_hasCookie 21 = .ok (.aaload, 1) := dk_50 (dk_at dksX4_hasCookie_0 21 rfl rfl)
theorem dX4_hasCookie_22 : decode cX4_hasCookie 22 = .ok (.iload_n 2, 1) := dk_28 (dk_at dksX4_hasCookie_0 22 rfl rfl)
theorem dX4_hasCookie_23 : decode cX4_hasCookie 23 = .ok (.iaload, 1) := dk_46 (dk_at dksX4_hasCookie_0 23 rfl rfl)
theorem dX4_hasCookie_24 : decode cX4_hasCookie 24 = .ok (.isub, 1) := dk_100 (dk_at dksX4_hasCookie_1 0 rfl rfl)
theorem dX4_hasCookie_25 : decode cX4_hasCookie 25 = .ok (.bipush 60, 2) := dk_16 60 (dk_at dksX4_hasCookie_1 1 rfl rfl)
theorem dX4_hasCookie_27 : decode cX4_hasCookie 27 = .ok (.if_icmp .ge 7, 3) := dk_162 0 7 (dk_at dksX4_hasCookie_1 3 rfl rfl)
theorem dX4_hasCookie_30 : decode cX4_hasCookie 30 = .ok (.iconst 1, 1) := dk_4 (dk_at dksX4_hasCookie_1 6 rfl rfl)
theorem dX4_hasCookie_31 : decode cX4_hasCookie 31 = .ok (.goto 4, 3) := dk_167 0 4 (dk_at dksX4_hasCookie_1 7 rfl rfl)
theorem dX4_hasCookie_34 : decode cX4_hasCookie 34 = .ok (.iconst 0, 1) := dk_3 (dk_at dksX4_hasCookie_1 10 rfl rfl)
theorem dX4_hasCookie_35 : decode cX4_hasCookie 35 = .ok (.ireturn, 1) := dk_172 (dk_at dksX4_hasCookie_1 11 rfl rfl)
abbrev cX4_keep : ByteArray := prog_8_method_46_code
def yX4_keep : MethodName := ⟨RX4, "keep", "(II)Z"⟩
def dkwX4_keep_1 : List UInt8 := [172, 42, 27, 28, 2, 2, 2, 182, 0, 176, 4, 172]
abbrev dktX4_keep_1 : List UInt8 := dkwX4_keep_1 ++ []
def dkwX4_keep_0 : List UInt8 := [42, 27, 28, 184, 0, 224, 182, 0, 215, 153, 0, 5, 3, 172, 42, 27, 28, 182, 0, 173, 154, 0, 5, 3]
abbrev dktX4_keep_0 : List UInt8 := dkwX4_keep_0 ++ dktX4_keep_1
theorem dksX4_keep_0 : cX4_keep.data.toList.drop 0 = dktX4_keep_0 := by decide +kernel
theorem dksX4_keep_1 : cX4_keep.data.toList.drop 24 = dktX4_keep_1 := dk_seg dksX4_keep_0 24 rfl rfl
theorem dX4_keep_0 : decode cX4_keep 0 = .ok (.aload_n 0, 1) := dk_42 (dk_at dksX4_keep_0 0 rfl rfl)
theorem dX4_keep_1 : decode cX4_keep 1 = .ok (.iload_n 1, 1) := dk_27 (dk_at dksX4_keep_0 1 rfl rfl)
theorem dX4_keep_2 : decode cX4_keep 2 = .ok (.iload_n 2, 1) := dk_28 (dk_at dksX4_keep_0 2 rfl rfl)
theorem dX4_keep_3 : decode cX4_keep 3 = .ok (.invokestatic 224, 3) := dk_184 0 224 (dk_at dksX4_keep_0 3 rfl rfl)
theorem dX4_keep_6 : decode cX4_keep 6 = .ok (.invokevirtual 215, 3) := dk_182 0 215 (dk_at dksX4_keep_0 6 rfl rfl)
theorem dX4_keep_9 : decode cX4_keep 9 = .ok (.ifCond .eq 5, 3) := dk_153 0 5 (dk_at dksX4_keep_0 9 rfl rfl)
theorem dX4_keep_12 : decode cX4_keep 12 = .ok (.iconst 0, 1) := dk_3 (dk_at dksX4_keep_0 12 rfl rfl)
theorem dX4_keep_13 : decode cX4_keep 13 = .ok (.ireturn, 1) := dk_172 (dk_at dksX4_keep_0 13 rfl rfl)
theorem dX4_keep_14 : decode cX4_keep 14 = .ok (.aload_n 0, 1) := dk_42 (dk_at dksX4_keep_0 14 rfl rfl)
theorem dX4_keep_15 : decode cX4_keep 15 = .ok (.iload_n 1, 1) := dk_27 (dk_at dksX4_keep_0 15 rfl rfl)
theorem dX4_keep_16 : decode cX4_keep 16 = .ok (.iload_n 2, 1) := dk_28 (dk_at dksX4_keep_0 16 rfl rfl)
theorem dX4_keep_17 : decode cX4_keep 17 = .ok (.invokevirtual 173, 3) := dk_182 0 173 (dk_at dksX4_keep_0 17 rfl rfl)
theorem dX4_keep_20 : decode cX4_keep 20 = .ok (.ifCond .ne 5, 3) := dk_154 0 5 (dk_at dksX4_keep_0 20 rfl rfl)
theorem dX4_keep_23 : decode cX4_keep 23 = .ok (.iconst 0, 1) := dk_3 (dk_at dksX4_keep_0 23 rfl rfl)
theorem dX4_keep_24 : decode cX4_keep 24 = .ok (.ireturn, 1) := dk_172 (dk_at dksX4_keep_1 0 rfl rfl)
theorem dX4_keep_25 : decode cX4_keep 25 = .ok (.aload_n 0, 1) := dk_42 (dk_at dksX4_keep_1 1 rfl rfl)
theorem dX4_keep_26 : decode cX4_keep 26 = .ok (.iload_n 1, 1) := dk_27 (dk_at dksX4_keep_1 2 rfl rfl)
theorem dX4_keep_27 : decode cX4_keep 27 = .ok (.iload_n 2, 1) := dk_28 (dk_at dksX4_keep_1 3 rfl rfl)
theorem dX4_keep_28 : decode cX4_keep 28 = .ok (.iconst (-1), 1) := dk_2 (dk_at dksX4_keep_1 4 rfl rfl)
theorem dX4_keep_29 : decode cX4_keep 29 = .ok (.iconst (-1), 1) := dk_2 (dk_at dksX4_keep_1 5 rfl rfl)
theorem dX4_keep_30 : decode cX4_keep 30 = .ok (.iconst (-1), 1) := dk_2 (dk_at dksX4_keep_1 6 rfl rfl)
theorem dX4_keep_31 : decode cX4_keep 31 = .ok (.invokevirtual 176, 3) := dk_182 0 176 (dk_at dksX4_keep_1 7 rfl rfl)
theorem dX4_keep_34 : decode cX4_keep 34 = .ok (.iconst 1, 1) := dk_4 (dk_at dksX4_keep_1 10 rfl rfl)
theorem dX4_keep_35 : decode cX4_keep 35 = .ok (.ireturn, 1) := dk_172 (dk_at dksX4_keep_1 11 rfl rfl)
abbrev cX4_greet : ByteArray := prog_8_method_47_code
def yX4_greet : MethodName := ⟨RX4, "greet", "(II)I"⟩
def dkwX4_greet_1 : List UInt8 := [29, 182, 0, 215, 153, 0, 5, 3, 172, 42, 27, 28, 182, 0, 238, 172]
abbrev dktX4_greet_1 : List UInt8 := dkwX4_greet_1 ++ []
def dkwX4_greet_0 : List UInt8 := [27, 28, 184, 0, 224, 62, 42, 29, 154, 0, 16, 42, 27, 28, 182, 0, 235, 153, 0, 7, 6, 167, 0, 4]
abbrev dktX4_greet_0 : List UInt8 := dkwX4_greet_0 ++ dktX4_greet_1
theorem dksX4_greet_0 : cX4_greet.data.toList.drop 0 = dktX4_greet_0 := by decide +kernel
theorem dksX4_greet_1 : cX4_greet.data.toList.drop 24 = dktX4_greet_1 := dk_seg dksX4_greet_0 24 rfl rfl
theorem dX4_greet_0 : decode cX4_greet 0 = .ok (.iload_n 1, 1) := dk_27 (dk_at dksX4_greet_0 0 rfl rfl)
theorem dX4_greet_1 : decode cX4_greet 1 = .ok (.iload_n 2, 1) := dk_28 (dk_at dksX4_greet_0 1 rfl rfl)
theorem dX4_greet_2 : decode cX4_greet 2 = .ok (.invokestatic 224, 3) := dk_184 0 224 (dk_at dksX4_greet_0 2 rfl rfl)
theorem dX4_greet_5 : decode cX4_greet 5 = .ok (.istore_n 3, 1) := dk_62 (dk_at dksX4_greet_0 5 rfl rfl)
theorem dX4_greet_6 : decode cX4_greet 6 = .ok (.aload_n 0, 1) := dk_42 (dk_at dksX4_greet_0 6 rfl rfl)
theorem dX4_greet_7 : decode cX4_greet 7 = .ok (.iload_n 3, 1) := dk_29 (dk_at dksX4_greet_0 7 rfl rfl)
theorem dX4_greet_8 : decode cX4_greet 8 = .ok (.ifCond .ne 16, 3) := dk_154 0 16 (dk_at dksX4_greet_0 8 rfl rfl)
theorem dX4_greet_11 : decode cX4_greet 11 = .ok (.aload_n 0, 1) := dk_42 (dk_at dksX4_greet_0 11 rfl rfl)
theorem dX4_greet_12 : decode cX4_greet 12 = .ok (.iload_n 1, 1) := dk_27 (dk_at dksX4_greet_0 12 rfl rfl)
theorem dX4_greet_13 : decode cX4_greet 13 = .ok (.iload_n 2, 1) := dk_28 (dk_at dksX4_greet_0 13 rfl rfl)
theorem dX4_greet_14 : decode cX4_greet 14 = .ok (.invokevirtual 235, 3) := dk_182 0 235 (dk_at dksX4_greet_0 14 rfl rfl)
theorem dX4_greet_17 : decode cX4_greet 17 = .ok (.ifCond .eq 7, 3) := dk_153 0 7 (dk_at dksX4_greet_0 17 rfl rfl)
theorem dX4_greet_20 : decode cX4_greet 20 = .ok (.iconst 3, 1) := dk_6 (dk_at dksX4_greet_0 20 rfl rfl)
theorem dX4_greet_21 : decode cX4_greet 21 = .ok (.goto 4, 3) := dk_167 0 4 (dk_at dksX4_greet_0 21 rfl rfl)
theorem dX4_greet_24 : decode cX4_greet 24 = .ok (.iload_n 3, 1) := dk_29 (dk_at dksX4_greet_1 0 rfl rfl)
theorem dX4_greet_25 : decode cX4_greet 25 = .ok (.invokevirtual 215, 3) := dk_182 0 215 (dk_at dksX4_greet_1 1 rfl rfl)
theorem dX4_greet_28 : decode cX4_greet 28 = .ok (.ifCond .eq 5, 3) := dk_153 0 5 (dk_at dksX4_greet_1 4 rfl rfl)
theorem dX4_greet_31 : decode cX4_greet 31 = .ok (.iconst 0, 1) := dk_3 (dk_at dksX4_greet_1 7 rfl rfl)
theorem dX4_greet_32 : decode cX4_greet 32 = .ok (.ireturn, 1) := dk_172 (dk_at dksX4_greet_1 8 rfl rfl)
theorem dX4_greet_33 : decode cX4_greet 33 = .ok (.aload_n 0, 1) := dk_42 (dk_at dksX4_greet_1 9 rfl rfl)
theorem dX4_greet_34 : decode cX4_greet 34 = .ok (.iload_n 1, 1) := dk_27 (dk_at dksX4_greet_1 10 rfl rfl)
theorem dX4_greet_35 : decode cX4_greet 35 = .ok (.iload_n 2, 1) := dk_28 (dk_at dksX4_greet_1 11 rfl rfl)
theorem dX4_greet_36 : decode cX4_greet 36 = .ok (.invokevirtual 238, 3) := dk_182 0 238 (dk_at dksX4_greet_1 12 rfl rfl)
theorem dX4_greet_39 : decode cX4_greet 39 = .ok (.ireturn, 1) := dk_172 (dk_at dksX4_greet_1 15 rfl rfl)
abbrev cX4_deliver : ByteArray := prog_8_method_48_code
def yX4_deliver : MethodName := ⟨RX4, "deliver", "(I)I"⟩
def dkwX4_deliver_2 : List UInt8 := [96, 92, 46, 4, 96, 79, 42, 89, 180, 0, 251, 4, 96, 181, 0, 251, 29, 172]
abbrev dktX4_deliver_2 : List UInt8 := dkwX4_deliver_2 ++ []
def dkwX4_deliver_1 : List UInt8 := [180, 0, 80, 27, 50, 77, 42, 27, 182, 0, 244, 42, 44, 182, 0, 248, 62, 42, 180, 0, 23, 29, 16, 7]
abbrev dktX4_deliver_1 : List UInt8 := dkwX4_deliver_1 ++ dktX4_deliver_2
def dkwX4_deliver_0 : List UInt8 := [42, 42, 27, 182, 0, 241, 153, 0, 7, 3, 167, 0, 4, 4, 182, 0, 215, 153, 0, 5, 3, 172, 42]
abbrev dktX4_deliver_0 : List UInt8 := dkwX4_deliver_0 ++ dktX4_deliver_1
theorem dksX4_deliver_0 : cX4_deliver.data.toList.drop 0 = dktX4_deliver_0 := by decide +kernel
theorem dksX4_deliver_1 : cX4_deliver.data.toList.drop 23 = dktX4_deliver_1 := dk_seg dksX4_deliver_0 23 rfl rfl
theorem dksX4_deliver_2 : cX4_deliver.data.toList.drop 47 = dktX4_deliver_2 := dk_seg dksX4_deliver_1 24 rfl rfl
theorem dX4_deliver_0 : decode cX4_deliver 0 = .ok (.aload_n 0, 1) := dk_42 (dk_at dksX4_deliver_0 0 rfl rfl)
theorem dX4_deliver_1 : decode cX4_deliver 1 = .ok (.aload_n 0, 1) := dk_42 (dk_at dksX4_deliver_0 1 rfl rfl)
theorem dX4_deliver_2 : decode cX4_deliver 2 = .ok (.iload_n 1, 1) := dk_27 (dk_at dksX4_deliver_0 2 rfl rfl)
theorem dX4_deliver_3 : decode cX4_deliver 3 = .ok (.invokevirtual 241, 3) := dk_182 0 241 (dk_at dksX4_deliver_0 3 rfl rfl)
theorem dX4_deliver_6 : decode cX4_deliver 6 = .ok (.ifCond .eq 7, 3) := dk_153 0 7 (dk_at dksX4_deliver_0 6 rfl rfl)
theorem dX4_deliver_9 : decode cX4_deliver 9 = .ok (.iconst 0, 1) := dk_3 (dk_at dksX4_deliver_0 9 rfl rfl)
theorem dX4_deliver_10 : decode cX4_deliver 10 = .ok (.goto 4, 3) := dk_167 0 4 (dk_at dksX4_deliver_0 10 rfl rfl)
theorem dX4_deliver_13 : decode cX4_deliver 13 = .ok (.iconst 1, 1) := dk_4 (dk_at dksX4_deliver_0 13 rfl rfl)
theorem dX4_deliver_14 : decode cX4_deliver 14 = .ok (.invokevirtual 215, 3) := dk_182 0 215 (dk_at dksX4_deliver_0 14 rfl rfl)
theorem dX4_deliver_17 : decode cX4_deliver 17 = .ok (.ifCond .eq 5, 3) := dk_153 0 5 (dk_at dksX4_deliver_0 17 rfl rfl)
theorem dX4_deliver_20 : decode cX4_deliver 20 = .ok (.iconst 0, 1) := dk_3 (dk_at dksX4_deliver_0 20 rfl rfl)
theorem dX4_deliver_21 : decode cX4_deliver 21 = .ok (.ireturn, 1) := dk_172 (dk_at dksX4_deliver_0 21 rfl rfl)
theorem dX4_deliver_22 : decode cX4_deliver 22 = .ok (.aload_n 0, 1) := dk_42 (dk_at dksX4_deliver_0 22 rfl rfl)
theorem dX4_deliver_23 : decode cX4_deliver 23 = .ok (.getfield 80, 3) := dk_180 0 80 (dk_at dksX4_deliver_1 0 rfl rfl)
theorem dX4_deliver_26 : decode cX4_deliver 26 = .ok (.iload_n 1, 1) := dk_27 (dk_at dksX4_deliver_1 3 rfl rfl)
theorem dX4_deliver_27 : decode cX4_deliver 27 = .ok (.aaload, 1) := dk_50 (dk_at dksX4_deliver_1 4 rfl rfl)
theorem dX4_deliver_28 : decode cX4_deliver 28 = .ok (.astore_n 2, 1) := dk_77 (dk_at dksX4_deliver_1 5 rfl rfl)
theorem dX4_deliver_29 : decode cX4_deliver 29 = .ok (.aload_n 0, 1) := dk_42 (dk_at dksX4_deliver_1 6 rfl rfl)
theorem dX4_deliver_30 : decode cX4_deliver 30 = .ok (.iload_n 1, 1) := dk_27 (dk_at dksX4_deliver_1 7 rfl rfl)
theorem dX4_deliver_31 : decode cX4_deliver 31 = .ok (.invokevirtual 244, 3) := dk_182 0 244 (dk_at dksX4_deliver_1 8 rfl rfl)
theorem dX4_deliver_34 : decode cX4_deliver 34 = .ok (.aload_n 0, 1) := dk_42 (dk_at dksX4_deliver_1 11 rfl rfl)
theorem dX4_deliver_35 : decode cX4_deliver 35 = .ok (.aload_n 2, 1) := dk_44 (dk_at dksX4_deliver_1 12 rfl rfl)
theorem dX4_deliver_36 : decode cX4_deliver 36 = .ok (.invokevirtual 248, 3) := dk_182 0 248 (dk_at dksX4_deliver_1 13 rfl rfl)
theorem dX4_deliver_39 : decode cX4_deliver 39 = .ok (.istore_n 3, 1) := dk_62 (dk_at dksX4_deliver_1 16 rfl rfl)
theorem dX4_deliver_40 : decode cX4_deliver 40 = .ok (.aload_n 0, 1) := dk_42 (dk_at dksX4_deliver_1 17 rfl rfl)
theorem dX4_deliver_41 : decode cX4_deliver 41 = .ok (.getfield 23, 3) := dk_180 0 23 (dk_at dksX4_deliver_1 18 rfl rfl)
theorem dX4_deliver_44 : decode cX4_deliver 44 = .ok (.iload_n 3, 1) := dk_29 (dk_at dksX4_deliver_1 21 rfl rfl)
theorem dX4_deliver_45 : decode cX4_deliver 45 = .ok (.bipush 7, 2) := dk_16 7 (dk_at dksX4_deliver_1 22 rfl rfl)
theorem dX4_deliver_47 : decode cX4_deliver 47 = .ok (.iadd, 1) := dk_96 (dk_at dksX4_deliver_2 0 rfl rfl)
theorem dX4_deliver_48 : decode cX4_deliver 48 = .ok (.dup2, 1) := dk_92 (dk_at dksX4_deliver_2 1 rfl rfl)
theorem dX4_deliver_49 : decode cX4_deliver 49 = .ok (.iaload, 1) := dk_46 (dk_at dksX4_deliver_2 2 rfl rfl)
theorem dX4_deliver_50 : decode cX4_deliver 50 = .ok (.iconst 1, 1) := dk_4 (dk_at dksX4_deliver_2 3 rfl rfl)
theorem dX4_deliver_51 : decode cX4_deliver 51 = .ok (.iadd, 1) := dk_96 (dk_at dksX4_deliver_2 4 rfl rfl)
theorem dX4_deliver_52 : decode cX4_deliver 52 = .ok (.iastore, 1) := dk_79 (dk_at dksX4_deliver_2 5 rfl rfl)
theorem dX4_deliver_53 : decode cX4_deliver 53 = .ok (.aload_n 0, 1) := dk_42 (dk_at dksX4_deliver_2 6 rfl rfl)
theorem dX4_deliver_54 : decode cX4_deliver 54 = .ok (.dup, 1) := dk_89 (dk_at dksX4_deliver_2 7 rfl rfl)
theorem dX4_deliver_55 : decode cX4_deliver 55 = .ok (.getfield 251, 3) := dk_180 0 251 (dk_at dksX4_deliver_2 8 rfl rfl)
theorem dX4_deliver_58 : decode cX4_deliver 58 = .ok (.iconst 1, 1) := dk_4 (dk_at dksX4_deliver_2 11 rfl rfl)
theorem dX4_deliver_59 : decode cX4_deliver 59 = .ok (.iadd, 1) := dk_96 (dk_at dksX4_deliver_2 12 rfl rfl)
theorem dX4_deliver_60 : decode cX4_deliver 60 = .ok (.putfield 251, 3) := dk_181 0 251 (dk_at dksX4_deliver_2 13 rfl rfl)
theorem dX4_deliver_63 : decode cX4_deliver 63 = .ok (.iload_n 3, 1) := dk_29 (dk_at dksX4_deliver_2 16 rfl rfl)
theorem dX4_deliver_64 : decode cX4_deliver 64 = .ok (.ireturn, 1) := dk_172 (dk_at dksX4_deliver_2 17 rfl rfl)
abbrev cX4_isLetter : ByteArray := prog_8_method_6_code
def yX4_isLetter : MethodName := ⟨RX4, "isLetter", "(I)Z"⟩
def dkwX4_isLetter_0 : List UInt8 := [27, 133, 9, 42, 180, 0, 95, 4, 100, 133, 184, 0, 91, 172]
abbrev dktX4_isLetter_0 : List UInt8 := dkwX4_isLetter_0 ++ []
theorem dksX4_isLetter_0 : cX4_isLetter.data.toList.drop 0 = dktX4_isLetter_0 := by decide +kernel
theorem dX4_isLetter_0 : decode cX4_isLetter 0 = .ok (.iload_n 1, 1) := dk_27 (dk_at dksX4_isLetter_0 0 rfl rfl)
theorem dX4_isLetter_1 : decode cX4_isLetter 1 = .ok (.i2l, 1) := dk_133 (dk_at dksX4_isLetter_0 1 rfl rfl)
theorem dX4_isLetter_2 : decode cX4_isLetter 2 = .ok (.lconst 0, 1) := dk_9 (dk_at dksX4_isLetter_0 2 rfl rfl)
theorem dX4_isLetter_3 : decode cX4_isLetter 3 = .ok (.aload_n 0, 1) := dk_42 (dk_at dksX4_isLetter_0 3 rfl rfl)
theorem dX4_isLetter_4 : decode cX4_isLetter 4 = .ok (.getfield 95, 3) := dk_180 0 95 (dk_at dksX4_isLetter_0 4 rfl rfl)
theorem dX4_isLetter_7 : decode cX4_isLetter 7 = .ok (.iconst 1, 1) := dk_4 (dk_at dksX4_isLetter_0 7 rfl rfl)
theorem dX4_isLetter_8 : decode cX4_isLetter 8 = .ok (.isub, 1) := dk_100 (dk_at dksX4_isLetter_0 8 rfl rfl)
theorem dX4_isLetter_9 : decode cX4_isLetter 9 = .ok (.i2l, 1) := dk_133 (dk_at dksX4_isLetter_0 9 rfl rfl)
theorem dX4_isLetter_10 : decode cX4_isLetter 10 = .ok (.invokestatic 91, 3) := dk_184 0 91 (dk_at dksX4_isLetter_0 10 rfl rfl)
theorem dX4_isLetter_13 : decode cX4_isLetter 13 = .ok (.ireturn, 1) := dk_172 (dk_at dksX4_isLetter_0 13 rfl rfl)
abbrev cX4_take : ByteArray := prog_8_method_18_code
def yX4_take : MethodName := ⟨RX4, "take", "(I)V"⟩
def dkwX4_take_1 : List UInt8 := [50, 83, 132, 2, 1, 167, 255, 229, 42, 89, 180, 0, 95, 4, 100, 181, 0, 95, 177]
abbrev dktX4_take_1 : List UInt8 := dkwX4_take_1 ++ []
def dkwX4_take_0 : List UInt8 := [27, 61, 28, 42, 180, 0, 95, 4, 100, 162, 0, 23, 42, 180, 0, 80, 28, 42, 180, 0, 80, 28, 4, 96]
abbrev dktX4_take_0 : List UInt8 := dkwX4_take_0 ++ dktX4_take_1
theorem dksX4_take_0 : cX4_take.data.toList.drop 0 = dktX4_take_0 := by decide +kernel
theorem dksX4_take_1 : cX4_take.data.toList.drop 24 = dktX4_take_1 := dk_seg dksX4_take_0 24 rfl rfl
theorem dX4_take_0 : decode cX4_take 0 = .ok (.iload_n 1, 1) := dk_27 (dk_at dksX4_take_0 0 rfl rfl)
theorem dX4_take_1 : decode cX4_take 1 = .ok (.istore_n 2, 1) := dk_61 (dk_at dksX4_take_0 1 rfl rfl)
theorem dX4_take_2 : decode cX4_take 2 = .ok (.iload_n 2, 1) := dk_28 (dk_at dksX4_take_0 2 rfl rfl)
theorem dX4_take_3 : decode cX4_take 3 = .ok (.aload_n 0, 1) := dk_42 (dk_at dksX4_take_0 3 rfl rfl)
theorem dX4_take_4 : decode cX4_take 4 = .ok (.getfield 95, 3) := dk_180 0 95 (dk_at dksX4_take_0 4 rfl rfl)
theorem dX4_take_7 : decode cX4_take 7 = .ok (.iconst 1, 1) := dk_4 (dk_at dksX4_take_0 7 rfl rfl)
theorem dX4_take_8 : decode cX4_take 8 = .ok (.isub, 1) := dk_100 (dk_at dksX4_take_0 8 rfl rfl)
theorem dX4_take_9 : decode cX4_take 9 = .ok (.if_icmp .ge 23, 3) := dk_162 0 23 (dk_at dksX4_take_0 9 rfl rfl)
theorem dX4_take_12 : decode cX4_take 12 = .ok (.aload_n 0, 1) := dk_42 (dk_at dksX4_take_0 12 rfl rfl)
theorem dX4_take_13 : decode cX4_take 13 = .ok (.getfield 80, 3) := dk_180 0 80 (dk_at dksX4_take_0 13 rfl rfl)
theorem dX4_take_16 : decode cX4_take 16 = .ok (.iload_n 2, 1) := dk_28 (dk_at dksX4_take_0 16 rfl rfl)
theorem dX4_take_17 : decode cX4_take 17 = .ok (.aload_n 0, 1) := dk_42 (dk_at dksX4_take_0 17 rfl rfl)
theorem dX4_take_18 : decode cX4_take 18 = .ok (.getfield 80, 3) := dk_180 0 80 (dk_at dksX4_take_0 18 rfl rfl)
theorem dX4_take_21 : decode cX4_take 21 = .ok (.iload_n 2, 1) := dk_28 (dk_at dksX4_take_0 21 rfl rfl)
theorem dX4_take_22 : decode cX4_take 22 = .ok (.iconst 1, 1) := dk_4 (dk_at dksX4_take_0 22 rfl rfl)
theorem dX4_take_23 : decode cX4_take 23 = .ok (.iadd, 1) := dk_96 (dk_at dksX4_take_0 23 rfl rfl)
theorem dX4_take_24 : decode cX4_take 24 = .ok (.aaload, 1) := dk_50 (dk_at dksX4_take_1 0 rfl rfl)
theorem dX4_take_25 : decode cX4_take 25 = .ok (.aastore, 1) := dk_83 (dk_at dksX4_take_1 1 rfl rfl)
theorem dX4_take_26 : decode cX4_take 26 = .ok (.iinc 2 1, 3) := dk_132 2 1 (dk_at dksX4_take_1 2 rfl rfl)
theorem dX4_take_29 : decode cX4_take 29 = .ok (.goto (-27), 3) := dk_167 255 229 (dk_at dksX4_take_1 5 rfl rfl)
theorem dX4_take_32 : decode cX4_take 32 = .ok (.aload_n 0, 1) := dk_42 (dk_at dksX4_take_1 8 rfl rfl)
theorem dX4_take_33 : decode cX4_take 33 = .ok (.dup, 1) := dk_89 (dk_at dksX4_take_1 9 rfl rfl)
theorem dX4_take_34 : decode cX4_take 34 = .ok (.getfield 95, 3) := dk_180 0 95 (dk_at dksX4_take_1 10 rfl rfl)
theorem dX4_take_37 : decode cX4_take 37 = .ok (.iconst 1, 1) := dk_4 (dk_at dksX4_take_1 13 rfl rfl)
theorem dX4_take_38 : decode cX4_take 38 = .ok (.isub, 1) := dk_100 (dk_at dksX4_take_1 14 rfl rfl)
theorem dX4_take_39 : decode cX4_take 39 = .ok (.putfield 95, 3) := dk_181 0 95 (dk_at dksX4_take_1 15 rfl rfl)
theorem dX4_take_42 : decode cX4_take 42 = .ok (.return_, 1) := dk_177 (dk_at dksX4_take_1 18 rfl rfl)
abbrev cX4_got : ByteArray := prog_8_method_37_code
def yX4_got : MethodName := ⟨RX4, "got", "([I)I"⟩
def dkwX4_got_4 : List UInt8 := [182, 0, 209, 172]
abbrev dktX4_got_4 : List UInt8 := dkwX4_got_4 ++ []
def dkwX4_got_3 : List UInt8 := [42, 28, 43, 182, 0, 200, 172, 42, 28, 43, 182, 0, 203, 172, 42, 28, 43, 182, 0, 206, 172, 42, 28, 43]
abbrev dktX4_got_3 : List UInt8 := dkwX4_got_3 ++ dktX4_got_4
def dkwX4_got_2 : List UInt8 := [170, 0, 0, 0, 46, 0, 0, 0, 1, 0, 0, 0, 3, 0, 0, 0, 25, 0, 0, 0, 32, 0, 0, 0, 39]
abbrev dktX4_got_2 : List UInt8 := dkwX4_got_2 ++ dktX4_got_3
def dkwX4_got_1 : List UInt8 := [132, 3, 1, 167, 255, 234, 28, 2, 160, 0, 5, 3, 172, 43, 5, 46]
abbrev dktX4_got_1 : List UInt8 := dkwX4_got_1 ++ dktX4_got_2
def dkwX4_got_0 : List UInt8 := [2, 61, 3, 62, 29, 6, 162, 0, 23, 42, 180, 0, 13, 29, 46, 43, 4, 46, 160, 0, 5, 29, 61]
abbrev dktX4_got_0 : List UInt8 := dkwX4_got_0 ++ dktX4_got_1
theorem dksX4_got_0 : cX4_got.data.toList.drop 0 = dktX4_got_0 := by decide +kernel
theorem dksX4_got_1 : cX4_got.data.toList.drop 23 = dktX4_got_1 := dk_seg dksX4_got_0 23 rfl rfl
theorem dksX4_got_2 : cX4_got.data.toList.drop 39 = dktX4_got_2 := dk_seg dksX4_got_1 16 rfl rfl
theorem dksX4_got_3 : cX4_got.data.toList.drop 64 = dktX4_got_3 := dk_seg dksX4_got_2 25 rfl rfl
theorem dksX4_got_4 : cX4_got.data.toList.drop 88 = dktX4_got_4 := dk_seg dksX4_got_3 24 rfl rfl
theorem dX4_got_0 : decode cX4_got 0 = .ok (.iconst (-1), 1) := dk_2 (dk_at dksX4_got_0 0 rfl rfl)
theorem dX4_got_1 : decode cX4_got 1 = .ok (.istore_n 2, 1) := dk_61 (dk_at dksX4_got_0 1 rfl rfl)
theorem dX4_got_2 : decode cX4_got 2 = .ok (.iconst 0, 1) := dk_3 (dk_at dksX4_got_0 2 rfl rfl)
theorem dX4_got_3 : decode cX4_got 3 = .ok (.istore_n 3, 1) := dk_62 (dk_at dksX4_got_0 3 rfl rfl)
theorem dX4_got_4 : decode cX4_got 4 = .ok (.iload_n 3, 1) := dk_29 (dk_at dksX4_got_0 4 rfl rfl)
theorem dX4_got_5 : decode cX4_got 5 = .ok (.iconst 3, 1) := dk_6 (dk_at dksX4_got_0 5 rfl rfl)
theorem dX4_got_6 : decode cX4_got 6 = .ok (.if_icmp .ge 23, 3) := dk_162 0 23 (dk_at dksX4_got_0 6 rfl rfl)
theorem dX4_got_9 : decode cX4_got 9 = .ok (.aload_n 0, 1) := dk_42 (dk_at dksX4_got_0 9 rfl rfl)
theorem dX4_got_10 : decode cX4_got 10 = .ok (.getfield 13, 3) := dk_180 0 13 (dk_at dksX4_got_0 10 rfl rfl)
theorem dX4_got_13 : decode cX4_got 13 = .ok (.iload_n 3, 1) := dk_29 (dk_at dksX4_got_0 13 rfl rfl)
theorem dX4_got_14 : decode cX4_got 14 = .ok (.iaload, 1) := dk_46 (dk_at dksX4_got_0 14 rfl rfl)
theorem dX4_got_15 : decode cX4_got 15 = .ok (.aload_n 1, 1) := dk_43 (dk_at dksX4_got_0 15 rfl rfl)
theorem dX4_got_16 : decode cX4_got 16 = .ok (.iconst 1, 1) := dk_4 (dk_at dksX4_got_0 16 rfl rfl)
theorem dX4_got_17 : decode cX4_got 17 = .ok (.iaload, 1) := dk_46 (dk_at dksX4_got_0 17 rfl rfl)
theorem dX4_got_18 : decode cX4_got 18 = .ok (.if_icmp .ne 5, 3) := dk_160 0 5 (dk_at dksX4_got_0 18 rfl rfl)
theorem dX4_got_21 : decode cX4_got 21 = .ok (.iload_n 3, 1) := dk_29 (dk_at dksX4_got_0 21 rfl rfl)
theorem dX4_got_22 : decode cX4_got 22 = .ok (.istore_n 2, 1) := dk_61 (dk_at dksX4_got_0 22 rfl rfl)
theorem dX4_got_23 : decode cX4_got 23 = .ok (.iinc 3 1, 3) := dk_132 3 1 (dk_at dksX4_got_1 0 rfl rfl)
theorem dX4_got_26 : decode cX4_got 26 = .ok (.goto (-22), 3) := dk_167 255 234 (dk_at dksX4_got_1 3 rfl rfl)
theorem dX4_got_29 : decode cX4_got 29 = .ok (.iload_n 2, 1) := dk_28 (dk_at dksX4_got_1 6 rfl rfl)
theorem dX4_got_30 : decode cX4_got 30 = .ok (.iconst (-1), 1) := dk_2 (dk_at dksX4_got_1 7 rfl rfl)
theorem dX4_got_31 : decode cX4_got 31 = .ok (.if_icmp .ne 5, 3) := dk_160 0 5 (dk_at dksX4_got_1 8 rfl rfl)
theorem dX4_got_34 : decode cX4_got 34 = .ok (.iconst 0, 1) := dk_3 (dk_at dksX4_got_1 11 rfl rfl)
theorem dX4_got_35 : decode cX4_got 35 = .ok (.ireturn, 1) := dk_172 (dk_at dksX4_got_1 12 rfl rfl)
theorem dX4_got_36 : decode cX4_got 36 = .ok (.aload_n 1, 1) := dk_43 (dk_at dksX4_got_1 13 rfl rfl)
theorem dX4_got_37 : decode cX4_got 37 = .ok (.iconst 2, 1) := dk_5 (dk_at dksX4_got_1 14 rfl rfl)
theorem dX4_got_38 : decode cX4_got 38 = .ok (.iaload, 1) := dk_46 (dk_at dksX4_got_1 15 rfl rfl)
theorem dX4_got_39 : decode cX4_got 39 = .ok (.tableswitch 46 1 3 #[25, 32, 39], 25) := by decide +kernel
theorem dX4_got_64 : decode cX4_got 64 = .ok (.aload_n 0, 1) := dk_42 (dk_at dksX4_got_3 0 rfl rfl)
theorem dX4_got_65 : decode cX4_got 65 = .ok (.iload_n 2, 1) := dk_28 (dk_at dksX4_got_3 1 rfl rfl)
theorem dX4_got_66 : decode cX4_got 66 = .ok (.aload_n 1, 1) := dk_43 (dk_at dksX4_got_3 2 rfl rfl)
theorem dX4_got_67 : decode cX4_got 67 = .ok (.invokevirtual 200, 3) := dk_182 0 200 (dk_at dksX4_got_3 3 rfl rfl)
theorem dX4_got_70 : decode cX4_got 70 = .ok (.ireturn, 1) := dk_172 (dk_at dksX4_got_3 6 rfl rfl)
theorem dX4_got_71 : decode cX4_got 71 = .ok (.aload_n 0, 1) := dk_42 (dk_at dksX4_got_3 7 rfl rfl)
theorem dX4_got_72 : decode cX4_got 72 = .ok (.iload_n 2, 1) := dk_28 (dk_at dksX4_got_3 8 rfl rfl)
theorem dX4_got_73 : decode cX4_got 73 = .ok (.aload_n 1, 1) := dk_43 (dk_at dksX4_got_3 9 rfl rfl)
theorem dX4_got_74 : decode cX4_got 74 = .ok (.invokevirtual 203, 3) := dk_182 0 203 (dk_at dksX4_got_3 10 rfl rfl)
theorem dX4_got_77 : decode cX4_got 77 = .ok (.ireturn, 1) := dk_172 (dk_at dksX4_got_3 13 rfl rfl)
theorem dX4_got_78 : decode cX4_got 78 = .ok (.aload_n 0, 1) := dk_42 (dk_at dksX4_got_3 14 rfl rfl)
theorem dX4_got_79 : decode cX4_got 79 = .ok (.iload_n 2, 1) := dk_28 (dk_at dksX4_got_3 15 rfl rfl)
theorem dX4_got_80 : decode cX4_got 80 = .ok (.aload_n 1, 1) := dk_43 (dk_at dksX4_got_3 16 rfl rfl)
theorem dX4_got_81 : decode cX4_got 81 = .ok (.invokevirtual 206, 3) := dk_182 0 206 (dk_at dksX4_got_3 17 rfl rfl)
theorem dX4_got_84 : decode cX4_got 84 = .ok (.ireturn, 1) := dk_172 (dk_at dksX4_got_3 20 rfl rfl)
theorem dX4_got_85 : decode cX4_got 85 = .ok (.aload_n 0, 1) := dk_42 (dk_at dksX4_got_3 21 rfl rfl)
theorem dX4_got_86 : decode cX4_got 86 = .ok (.iload_n 2, 1) := dk_28 (dk_at dksX4_got_3 22 rfl rfl)
theorem dX4_got_87 : decode cX4_got 87 = .ok (.aload_n 1, 1) := dk_43 (dk_at dksX4_got_3 23 rfl rfl)
theorem dX4_got_88 : decode cX4_got 88 = .ok (.invokevirtual 209, 3) := dk_182 0 209 (dk_at dksX4_got_4 0 rfl rfl)
theorem dX4_got_91 : decode cX4_got 91 = .ok (.ireturn, 1) := dk_172 (dk_at dksX4_got_4 3 rfl rfl)
abbrev cX4_gotHello : ByteArray := prog_8_method_32_code
def yX4_gotHello : MethodName := ⟨RX4, "gotHello", "(I[I)I"⟩
def dkwX4_gotHello_20 : List UInt8 := [3, 79, 184, 0, 138, 3, 182, 0, 180, 6, 172]
abbrev dktX4_gotHello_20 : List UInt8 := dkwX4_gotHello_20 ++ []
def dkwX4_gotHello_19 : List UInt8 := [21, 13, 79, 89, 5, 4, 79, 184, 0, 138, 6, 188, 10, 89, 3, 8, 79, 89, 4, 21, 13, 79, 89, 5]
abbrev dktX4_gotHello_19 : List UInt8 := dkwX4_gotHello_19 ++ dktX4_gotHello_20
def dkwX4_gotHello_18 : List UInt8 := [184, 0, 154, 79, 182, 0, 162, 42, 27, 21, 8, 5, 21, 11, 29, 6, 188, 10, 89, 3, 8, 79, 89, 4]
abbrev dktX4_gotHello_18 : List UInt8 := dkwX4_gotHello_18 ++ dktX4_gotHello_19
def dkwX4_gotHello_17 : List UInt8 := [188, 10, 89, 3, 5, 79, 89, 4, 21, 11, 79, 89, 5, 29, 79, 89, 6, 21, 12, 184, 0, 122, 79]
abbrev dktX4_gotHello_17 : List UInt8 := dkwX4_gotHello_17 ++ dktX4_gotHello_18
def dkwX4_gotHello_16 : List UInt8 := [188, 10, 89, 3, 21, 11, 79, 89, 4, 29, 79, 89, 5, 21, 12, 184, 0, 122, 79, 89, 6, 21, 13, 7]
abbrev dktX4_gotHello_16 : List UInt8 := dkwX4_gotHello_16 ++ dktX4_gotHello_17
def dkwX4_gotHello_15 : List UInt8 := [184, 0, 132, 184, 0, 135, 79, 184, 0, 138, 54, 13, 42, 42, 180, 0, 13, 27, 46, 44, 3, 46, 5, 7]
abbrev dktX4_gotHello_15 : List UInt8 := dkwX4_gotHello_15 ++ dktX4_gotHello_16
def dkwX4_gotHello_14 : List UInt8 := [79, 89, 4, 21, 10, 79, 89, 5, 21, 12, 21, 4, 184, 0, 135, 79, 89, 6, 21, 12, 21, 8]
abbrev dktX4_gotHello_14 : List UInt8 := dkwX4_gotHello_14 ++ dktX4_gotHello_15
def dkwX4_gotHello_13 : List UInt8 := [180, 0, 7, 90, 4, 96, 181, 0, 7, 54, 11, 21, 11, 184, 0, 142, 54, 12, 7, 188, 10, 89, 3, 7]
abbrev dktX4_gotHello_13 : List UInt8 := dkwX4_gotHello_13 ++ dktX4_gotHello_14
def dkwX4_gotHello_12 : List UInt8 := [180, 0, 40, 27, 50, 21, 8, 21, 6, 79, 42, 180, 0, 37, 27, 50, 21, 8, 44, 3, 46, 79, 42, 89]
abbrev dktX4_gotHello_12 : List UInt8 := dkwX4_gotHello_12 ++ dktX4_gotHello_13
def dkwX4_gotHello_11 : List UInt8 := [159, 0, 6, 16, 254, 172, 21, 6, 42, 180, 0, 40, 27, 50, 21, 8, 46, 163, 0, 6, 16, 250, 172, 42]
abbrev dktX4_gotHello_11 : List UInt8 := dkwX4_gotHello_11 ++ dktX4_gotHello_12
def dkwX4_gotHello_10 : List UInt8 := [79, 89, 4, 29, 79, 89, 5, 21, 4, 79, 89, 6, 21, 5, 79, 89, 7, 21, 6, 79, 184, 0, 154]
abbrev dktX4_gotHello_10 : List UInt8 := dkwX4_gotHello_10 ++ dktX4_gotHello_11
def dkwX4_gotHello_9 : List UInt8 := [21, 8, 184, 0, 132, 184, 0, 135, 79, 184, 0, 138, 54, 10, 21, 7, 21, 10, 8, 188, 10, 89, 3, 4]
abbrev dktX4_gotHello_9 : List UInt8 := dkwX4_gotHello_9 ++ dktX4_gotHello_10
def dkwX4_gotHello_8 : List UInt8 := [188, 10, 89, 3, 4, 79, 89, 4, 27, 184, 0, 118, 21, 4, 184, 0, 135, 79, 89, 5, 27, 184, 0, 118]
abbrev dktX4_gotHello_8 : List UInt8 := dkwX4_gotHello_8 ++ dktX4_gotHello_9
def dkwX4_gotHello_7 : List UInt8 := [89, 3, 6, 79, 89, 4, 29, 79, 89, 5, 21, 9, 79, 184, 0, 154, 79, 182, 0, 162, 16, 249, 172, 6]
abbrev dktX4_gotHello_7 : List UInt8 := dkwX4_gotHello_7 ++ dktX4_gotHello_8
def dkwX4_gotHello_6 : List UInt8 := [188, 10, 89, 3, 6, 79, 89, 4, 27, 184, 0, 132, 79, 89, 5, 21, 7, 79, 184, 0, 138, 6, 188, 10]
abbrev dktX4_gotHello_6 : List UInt8 := dkwX4_gotHello_6 ++ dktX4_gotHello_7
def dkwX4_gotHello_5 : List UInt8 := [180, 0, 13, 27, 46, 44, 3, 46, 6, 6, 188, 10, 89, 3, 29, 79, 89, 4, 21, 9, 79, 89, 5, 6]
abbrev dktX4_gotHello_5 : List UInt8 := dkwX4_gotHello_5 ++ dktX4_gotHello_6
def dkwX4_gotHello_4 : List UInt8 := [89, 3, 5, 79, 89, 4, 21, 9, 79, 89, 5, 21, 7, 79, 184, 0, 138, 159, 0, 76, 42, 42]
abbrev dktX4_gotHello_4 : List UInt8 := dkwX4_gotHello_4 ++ dktX4_gotHello_5
def dkwX4_gotHello_3 : List UInt8 := [3, 46, 79, 184, 0, 138, 54, 9, 42, 180, 0, 26, 27, 51, 153, 0, 103, 44, 16, 8, 46, 6, 188, 10]
abbrev dktX4_gotHello_3 : List UInt8 := dkwX4_gotHello_3 ++ dktX4_gotHello_4
def dkwX4_gotHello_2 : List UInt8 := [3, 16, 6, 79, 89, 4, 27, 184, 0, 118, 79, 89, 5, 42, 180, 0, 129, 16, 60, 108, 79, 89, 6, 44]
abbrev dktX4_gotHello_2 : List UInt8 := dkwX4_gotHello_2 ++ dktX4_gotHello_3
def dkwX4_gotHello_1 : List UInt8 := [54, 7, 21, 5, 16, 10, 108, 54, 8, 21, 5, 16, 10, 112, 27, 159, 0, 5, 2, 172, 7, 188, 10, 89]
abbrev dktX4_gotHello_1 : List UInt8 := dkwX4_gotHello_1 ++ dktX4_gotHello_2
def dkwX4_gotHello_0 : List UInt8 := [44, 6, 46, 62, 44, 7, 46, 54, 4, 44, 8, 46, 54, 5, 44, 16, 6, 46, 54, 6, 44, 16, 7, 46]
abbrev dktX4_gotHello_0 : List UInt8 := dkwX4_gotHello_0 ++ dktX4_gotHello_1
theorem dksX4_gotHello_0 : cX4_gotHello.data.toList.drop 0 = dktX4_gotHello_0 := by decide +kernel
theorem dksX4_gotHello_1 : cX4_gotHello.data.toList.drop 24 = dktX4_gotHello_1 := dk_seg dksX4_gotHello_0 24 rfl rfl
theorem dksX4_gotHello_2 : cX4_gotHello.data.toList.drop 48 = dktX4_gotHello_2 := dk_seg dksX4_gotHello_1 24 rfl rfl
theorem dksX4_gotHello_3 : cX4_gotHello.data.toList.drop 72 = dktX4_gotHello_3 := dk_seg dksX4_gotHello_2 24 rfl rfl
theorem dksX4_gotHello_4 : cX4_gotHello.data.toList.drop 96 = dktX4_gotHello_4 := dk_seg dksX4_gotHello_3 24 rfl rfl
theorem dksX4_gotHello_5 : cX4_gotHello.data.toList.drop 118 = dktX4_gotHello_5 := dk_seg dksX4_gotHello_4 22 rfl rfl
theorem dksX4_gotHello_6 : cX4_gotHello.data.toList.drop 142 = dktX4_gotHello_6 := dk_seg dksX4_gotHello_5 24 rfl rfl
theorem dksX4_gotHello_7 : cX4_gotHello.data.toList.drop 166 = dktX4_gotHello_7 := dk_seg dksX4_gotHello_6 24 rfl rfl
theorem dksX4_gotHello_8 : cX4_gotHello.data.toList.drop 190 = dktX4_gotHello_8 := dk_seg dksX4_gotHello_7 24 rfl rfl
theorem dksX4_gotHello_9 : cX4_gotHello.data.toList.drop 214 = dktX4_gotHello_9 := dk_seg dksX4_gotHello_8 24 rfl rfl
theorem dksX4_gotHello_10 : cX4_gotHello.data.toList.drop 238 = dktX4_gotHello_10 := dk_seg dksX4_gotHello_9 24 rfl rfl
theorem dksX4_gotHello_11 : cX4_gotHello.data.toList.drop 261 = dktX4_gotHello_11 := dk_seg dksX4_gotHello_10 23 rfl rfl
theorem dksX4_gotHello_12 : cX4_gotHello.data.toList.drop 285 = dktX4_gotHello_12 := dk_seg dksX4_gotHello_11 24 rfl rfl
theorem dksX4_gotHello_13 : cX4_gotHello.data.toList.drop 309 = dktX4_gotHello_13 := dk_seg dksX4_gotHello_12 24 rfl rfl
theorem dksX4_gotHello_14 : cX4_gotHello.data.toList.drop 333 = dktX4_gotHello_14 := dk_seg dksX4_gotHello_13 24 rfl rfl
theorem dksX4_gotHello_15 : cX4_gotHello.data.toList.drop 355 = dktX4_gotHello_15 := dk_seg dksX4_gotHello_14 22 rfl rfl
theorem dksX4_gotHello_16 : cX4_gotHello.data.toList.drop 379 = dktX4_gotHello_16 := dk_seg dksX4_gotHello_15 24 rfl rfl
theorem dksX4_gotHello_17 : cX4_gotHello.data.toList.drop 403 = dktX4_gotHello_17 := dk_seg dksX4_gotHello_16 24 rfl rfl
theorem dksX4_gotHello_18 : cX4_gotHello.data.toList.drop 426 = dktX4_gotHello_18 := dk_seg dksX4_gotHello_17 23 rfl rfl
theorem dksX4_gotHello_19 : cX4_gotHello.data.toList.drop 450 = dktX4_gotHello_19 := dk_seg dksX4_gotHello_18 24 rfl rfl
theorem dksX4_gotHello_20 : cX4_gotHello.data.toList.drop 474 = dktX4_gotHello_20 := dk_seg dksX4_gotHello_19 24 rfl rfl
theorem dX4_gotHello_0 : decode cX4_gotHello 0 = .ok (.aload_n 2, 1) := dk_44 (dk_at dksX4_gotHello_0 0 rfl rfl)
theorem dX4_gotHello_1 : decode cX4_gotHello 1 = .ok (.iconst 3, 1) := dk_6 (dk_at dksX4_gotHello_0 1 rfl rfl)
theorem dX4_gotHello_2 : decode cX4_gotHello 2 = .ok (.iaload, 1) := dk_46 (dk_at dksX4_gotHello_0 2 rfl rfl)
theorem dX4_gotHello_3 : decode cX4_gotHello 3 = .ok (.istore_n 3, 1) := dk_62 (dk_at dksX4_gotHello_0 3 rfl rfl)
theorem dX4_gotHello_4 : decode cX4_gotHello 4 = .ok (.aload_n 2, 1) := dk_44 (dk_at dksX4_gotHello_0 4 rfl rfl)
theorem dX4_gotHello_5 : decode cX4_gotHello 5 = .ok (.iconst 4, 1) := dk_7 (dk_at dksX4_gotHello_0 5 rfl rfl)
theorem dX4_gotHello_6 : decode cX4_gotHello 6 = .ok (.iaload, 1) := dk_46 (dk_at dksX4_gotHello_0 6 rfl rfl)
theorem dX4_gotHello_7 : decode cX4_gotHello 7 = .ok (.istore 4, 2) := dk_54 4 (dk_at dksX4_gotHello_0 7 rfl rfl)
theorem dX4_gotHello_9 : decode cX4_gotHello 9 = .ok (.aload_n 2, 1) := dk_44 (dk_at dksX4_gotHello_0 9 rfl rfl)
theorem dX4_gotHello_10 : decode cX4_gotHello 10 = .ok (.iconst 5, 1) := dk_8 (dk_at dksX4_gotHello_0 10 rfl rfl)
theorem dX4_gotHello_11 : decode cX4_gotHello 11 = .ok (.iaload, 1) := dk_46 (dk_at dksX4_gotHello_0 11 rfl rfl)
theorem dX4_gotHello_12 : decode cX4_gotHello 12 = .ok (.istore 5, 2) := dk_54 5 (dk_at dksX4_gotHello_0 12 rfl rfl)
theorem dX4_gotHello_14 : decode cX4_gotHello 14 = .ok (.aload_n 2, 1) := dk_44 (dk_at dksX4_gotHello_0 14 rfl rfl)
theorem dX4_gotHello_15 : decode cX4_gotHello 15 = .ok (.bipush 6, 2) := dk_16 6 (dk_at dksX4_gotHello_0 15 rfl rfl)
theorem dX4_gotHello_17 : decode cX4_gotHello 17 = .ok (.iaload, 1) := dk_46 (dk_at dksX4_gotHello_0 17 rfl rfl)
theorem dX4_gotHello_18 : decode cX4_gotHello 18 = .ok (.istore 6, 2) := dk_54 6 (dk_at dksX4_gotHello_0 18 rfl rfl)
theorem dX4_gotHello_20 : decode cX4_gotHello 20 = .ok (.aload_n 2, 1) := dk_44 (dk_at dksX4_gotHello_0 20 rfl rfl)
theorem dX4_gotHello_21 : decode cX4_gotHello 21 = .ok (.bipush 7, 2) := dk_16 7 (dk_at dksX4_gotHello_0 21 rfl rfl)
theorem dX4_gotHello_23 : decode cX4_gotHello 23 = .ok (.iaload, 1) := dk_46 (dk_at dksX4_gotHello_0 23 rfl rfl)
theorem dX4_gotHello_24 : decode cX4_gotHello 24 = .ok (.istore 7, 2) := dk_54 7 (dk_at dksX4_gotHello_1 0 rfl rfl)
theorem dX4_gotHello_26 : decode cX4_gotHello 26 = .ok (.iload 5, 2) := dk_21 5 (dk_at dksX4_gotHello_1 2 rfl rfl)
theorem dX4_gotHello_28 : decode cX4_gotHello 28 = .ok (.bipush 10, 2) := dk_16 10 (dk_at dksX4_gotHello_1 4 rfl rfl)
theorem dX4_gotHello_30 : decode cX4_gotHello 30 = .ok (.idiv, 1) := dk_108 (dk_at dksX4_gotHello_1 6 rfl rfl)
theorem dX4_gotHello_31 : decode cX4_gotHello 31 = .ok (.istore 8, 2) := dk_54 8 (dk_at dksX4_gotHello_1 7 rfl rfl)
theorem dX4_gotHello_33 : decode cX4_gotHello 33 = .ok (.iload 5, 2) := dk_21 5 (dk_at dksX4_gotHello_1 9 rfl rfl)
theorem dX4_gotHello_35 : decode cX4_gotHello 35 = .ok (.bipush 10, 2) := dk_16 10 (dk_at dksX4_gotHello_1 11 rfl rfl)
theorem dX4_gotHello_37 : decode cX4_gotHello 37 = .ok (.irem, 1) := dk_112 (dk_at dksX4_gotHello_1 13 rfl rfl)
theorem dX4_gotHello_38 : decode cX4_gotHello 38 = .ok (.iload_n 1, 1) := dk_27 (dk_at dksX4_gotHello_1 14 rfl rfl)
theorem dX4_gotHello_39 : decode cX4_gotHello 39 = .ok (.if_icmp .eq 5, 3) := dk_159 0 5 (dk_at dksX4_gotHello_1 15 rfl rfl)
theorem dX4_gotHello_42 : decode cX4_gotHello 42 = .ok (.iconst (-1), 1) := dk_2 (dk_at dksX4_gotHello_1 18 rfl rfl)
theorem dX4_gotHello_43 : decode cX4_gotHello 43 = .ok (.ireturn, 1) := dk_172 (dk_at dksX4_gotHello_1 19 rfl rfl)
theorem dX4_gotHello_44 : decode cX4_gotHello 44 = .ok (.iconst 4, 1) := dk_7 (dk_at dksX4_gotHello_1 20 rfl rfl)
theorem dX4_gotHello_45 : decode cX4_gotHello 45 = .ok (.newarray .int, 2) := dk_188_10 (dk_at dksX4_gotHello_1 21 rfl rfl)
theorem dX4_gotHello_47 : decode cX4_gotHello 47 = .ok (.dup, 1) := dk_89 (dk_at dksX4_gotHello_1 23 rfl rfl)
theorem dX4_gotHello_48 : decode cX4_gotHello 48 = .ok (.iconst 0, 1) := dk_3 (dk_at dksX4_gotHello_2 0 rfl rfl)
theorem dX4_gotHello_49 : decode cX4_gotHello 49 = .ok (.bipush 6, 2) := dk_16 6 (dk_at dksX4_gotHello_2 1 rfl rfl)
theorem dX4_gotHello_51 : decode cX4_gotHello 51 = .ok (.iastore, 1) := dk_79 (dk_at dksX4_gotHello_2 3 rfl rfl)
theorem dX4_gotHello_52 : decode cX4_gotHello 52 = .ok (.dup, 1) := dk_89 (dk_at dksX4_gotHello_2 4 rfl rfl)
theorem dX4_gotHello_53 : decode cX4_gotHello 53 = .ok (.iconst 1, 1) := dk_4 (dk_at dksX4_gotHello_2 5 rfl rfl)
theorem dX4_gotHello_54 : decode cX4_gotHello 54 = .ok (.iload_n 1, 1) := dk_27 (dk_at dksX4_gotHello_2 6 rfl rfl)
theorem dX4_gotHello_55 : decode cX4_gotHello 55 = .ok (.invokestatic 118, 3) := dk_184 0 118 (dk_at dksX4_gotHello_2 7 rfl rfl)
theorem dX4_gotHello_58 : decode cX4_gotHello 58 = .ok (.iastore, 1) := dk_79 (dk_at dksX4_gotHello_2 10 rfl rfl)
theorem dX4_gotHello_59 : decode cX4_gotHello 59 = .ok (.dup, 1) := dk_89 (dk_at dksX4_gotHello_2 11 rfl rfl)
theorem dX4_gotHello_60 : decode cX4_gotHello 60 = .ok (.iconst 2, 1) := dk_5 (dk_at dksX4_gotHello_2 12 rfl rfl)
theorem dX4_gotHello_61 : decode cX4_gotHello 61 = .ok (.aload_n 0, 1) := dk_42 (dk_at dksX4_gotHello_2 13 rfl rfl)
theorem dX4_gotHello_62 : decode cX4_gotHello 62 = .ok (.getfield 129, 3) := dk_180 0 129 (dk_at dksX4_gotHello_2 14 rfl rfl)
theorem dX4_gotHello_65 : decode cX4_gotHello 65 = .ok (.bipush 60, 2) := dk_16 60 (dk_at dksX4_gotHello_2 17 rfl rfl)
theorem dX4_gotHello_67 : decode cX4_gotHello 67 = .ok (.idiv, 1) := dk_108 (dk_at dksX4_gotHello_2 19 rfl rfl)
theorem dX4_gotHello_68 : decode cX4_gotHello 68 = .ok (.iastore, 1) := dk_79 (dk_at dksX4_gotHello_2 20 rfl rfl)
theorem dX4_gotHello_69 : decode cX4_gotHello 69 = .ok (.dup, 1) := dk_89 (dk_at dksX4_gotHello_2 21 rfl rfl)
theorem dX4_gotHello_70 : decode cX4_gotHello 70 = .ok (.iconst 3, 1) := dk_6 (dk_at dksX4_gotHello_2 22 rfl rfl)
theorem dX4_gotHello_71 : decode cX4_gotHello 71 = .ok (.aload_n 2, 1) := dk_44 (dk_at dksX4_gotHello_2 23 rfl rfl)
theorem dX4_gotHello_72 : decode cX4_gotHello 72 = .ok (.iconst 0, 1) := dk_3 (dk_at dksX4_gotHello_3 0 rfl rfl)
theorem dX4_gotHello_73 : decode cX4_gotHello 73 = .ok (.iaload, 1) := dk_46 (dk_at dksX4_gotHello_3 1 rfl rfl)
theorem dX4_gotHello_74 : decode cX4_gotHello 74 = .ok (.iastore, 1) := dk_79 (dk_at dksX4_gotHello_3 2 rfl rfl)
theorem dX4_gotHello_75 : decode cX4_gotHello 75 = .ok (.invokestatic 138, 3) := dk_184 0 138 (dk_at dksX4_gotHello_3 3 rfl rfl)
theorem dX4_gotHello_78 : decode cX4_gotHello 78 = .ok (.istore 9, 2) := dk_54 9 (dk_at dksX4_gotHello_3 6 rfl rfl)
theorem dX4_gotHello_80 : decode cX4_gotHello 80 = .ok (.aload_n 0, 1) := dk_42 (dk_at dksX4_gotHello_3 8 rfl rfl)
theorem dX4_gotHello_81 : decode cX4_gotHello 81 = .ok (.getfield 26, 3) := dk_180 0 26 (dk_at dksX4_gotHello_3 9 rfl rfl)
theorem dX4_gotHello_84 : decode cX4_gotHello 84 = .ok (.iload_n 1, 1) := dk_27 (dk_at dksX4_gotHello_3 12 rfl rfl)
theorem dX4_gotHello_85 : decode cX4_gotHello 85 = .ok (.baload, 1) := dk_51 (dk_at dksX4_gotHello_3 13 rfl rfl)
theorem dX4_gotHello_86 : decode cX4_gotHello 86 = .ok (.ifCond .eq 103, 3) := dk_153 0 103 (dk_at dksX4_gotHello_3 14 rfl rfl)
theorem dX4_gotHello_89 : decode cX4_gotHello 89 = .ok (.aload_n 2, 1) := dk_44 (dk_at dksX4_gotHello_3 17 rfl rfl)
theorem dX4_gotHello_90 : decode cX4_gotHello 90 = .ok (.bipush 8, 2) := dk_16 8 (dk_at dksX4_gotHello_3 18 rfl rfl)
theorem dX4_gotHello_92 : decode cX4_gotHello 92 = .ok (.iaload, 1) := dk_46 (dk_at dksX4_gotHello_3 20 rfl rfl)
theorem dX4_gotHello_93 : decode cX4_gotHello 93 = .ok (.iconst 3, 1) := dk_6 (dk_at dksX4_gotHello_3 21 rfl rfl)
theorem dX4_gotHello_94 : decode cX4_gotHello 94 = .ok (.newarray .int, 2) := dk_188_10 (dk_at dksX4_gotHello_3 22 rfl rfl)
theorem dX4_gotHello_96 : decode cX4_gotHello 96 = .ok (.dup, 1) := dk_89 (dk_at dksX4_gotHello_4 0 rfl rfl)
theorem dX4_gotHello_97 : decode cX4_gotHello 97 = .ok (.iconst 0, 1) := dk_3 (dk_at dksX4_gotHello_4 1 rfl rfl)
theorem dX4_gotHello_98 : decode cX4_gotHello 98 = .ok (.iconst 2, 1) := dk_5 (dk_at dksX4_gotHello_4 2 rfl rfl)
theorem dX4_gotHello_99 : decode cX4_gotHello 99 = .ok (.iastore, 1) := dk_79 (dk_at dksX4_gotHello_4 3 rfl rfl)
theorem dX4_gotHello_100 : decode cX4_gotHello 100 = .ok (.dup, 1) := dk_89 (dk_at dksX4_gotHello_4 4 rfl rfl)
theorem dX4_gotHello_101 : decode cX4_gotHello 101 = .ok (.iconst 1, 1) := dk_4 (dk_at dksX4_gotHello_4 5 rfl rfl)
theorem dX4_gotHello_102 : decode cX4_gotHello 102 = .ok (.iload 9, 2) := dk_21 9 (dk_at dksX4_gotHello_4 6 rfl rfl)
theorem dX4_gotHello_104 : decode cX4_gotHello 104 = .ok (.iastore, 1) := dk_79 (dk_at dksX4_gotHello_4 8 rfl rfl)
theorem dX4_gotHello_105 : decode cX4_gotHello 105 = .ok (.dup, 1) := dk_89 (dk_at dksX4_gotHello_4 9 rfl rfl)
theorem dX4_gotHello_106 : decode cX4_gotHello 106 = .ok (.iconst 2, 1) := dk_5 (dk_at dksX4_gotHello_4 10 rfl rfl)
theorem dX4_gotHello_107 : decode cX4_gotHello 107 = .ok (.iload 7, 2) := dk_21 7 (dk_at dksX4_gotHello_4 11 rfl rfl)
theorem dX4_gotHello_109 : decode cX4_gotHello 109 = .ok (.iastore, 1) := dk_79 (dk_at dksX4_gotHello_4 13 rfl rfl)
theorem dX4_gotHello_110 : decode cX4_gotHello 110 = .ok (.invokestatic 138, 3) := dk_184 0 138 (dk_at dksX4_gotHello_4 14 rfl rfl)
theorem dX4_gotHello_113 : decode cX4_gotHello 113 = .ok (.if_icmp .eq 76, 3) := dk_159 0 76 (dk_at dksX4_gotHello_4 17 rfl rfl)
theorem dX4_gotHello_116 : decode cX4_gotHello 116 = .ok (.aload_n 0, 1) := dk_42 (dk_at dksX4_gotHello_4 20 rfl rfl)
theorem dX4_gotHello_117 : decode cX4_gotHello 117 = .ok (.aload_n 0, 1) := dk_42 (dk_at dksX4_gotHello_4 21 rfl rfl)
theorem dX4_gotHello_118 : decode cX4_gotHello 118 = .ok (.getfield 13, 3) := dk_180 0 13 (dk_at dksX4_gotHello_5 0 rfl rfl)
theorem dX4_gotHello_121 : decode cX4_gotHello 121 = .ok (.iload_n 1, 1) := dk_27 (dk_at dksX4_gotHello_5 3 rfl rfl)
theorem dX4_gotHello_122 : decode cX4_gotHello 122 = .ok (.iaload, 1) := dk_46 (dk_at dksX4_gotHello_5 4 rfl rfl)
theorem dX4_gotHello_123 : decode cX4_gotHello 123 = .ok (.aload_n 2, 1) := dk_44 (dk_at dksX4_gotHello_5 5 rfl rfl)
theorem dX4_gotHello_124 : decode cX4_gotHello 124 = .ok (.iconst 0, 1) := dk_3 (dk_at dksX4_gotHello_5 6 rfl rfl)
theorem dX4_gotHello_125 : decode cX4_gotHello 125 = .ok (.iaload, 1) := dk_46 (dk_at dksX4_gotHello_5 7 rfl rfl)
theorem dX4_gotHello_126 : decode cX4_gotHello 126 = .ok (.iconst 3, 1) := dk_6 (dk_at dksX4_gotHello_5 8 rfl rfl)
theorem dX4_gotHello_127 : decode cX4_gotHello 127 = .ok (.iconst 3, 1) := dk_6 (dk_at dksX4_gotHello_5 9 rfl rfl)
theorem dX4_gotHello_128 : decode cX4_gotHello 128 = .ok (.newarray .int, 2) := dk_188_10 (dk_at dksX4_gotHello_5 10 rfl rfl)
theorem dX4_gotHello_130 : decode cX4_gotHello 130 = .ok (.dup, 1) := dk_89 (dk_at dksX4_gotHello_5 12 rfl rfl)
theorem dX4_gotHello_131 : decode cX4_gotHello 131 = .ok (.iconst 0, 1) := dk_3 (dk_at dksX4_gotHello_5 13 rfl rfl)
theorem dX4_gotHello_132 : decode cX4_gotHello 132 = .ok (.iload_n 3, 1) := dk_29 (dk_at dksX4_gotHello_5 14 rfl rfl)
theorem dX4_gotHello_133 : decode cX4_gotHello 133 = .ok (.iastore, 1) := dk_79 (dk_at dksX4_gotHello_5 15 rfl rfl)
theorem dX4_gotHello_134 : decode cX4_gotHello 134 = .ok (.dup, 1) := dk_89 (dk_at dksX4_gotHello_5 16 rfl rfl)
theorem dX4_gotHello_135 : decode cX4_gotHello 135 = .ok (.iconst 1, 1) := dk_4 (dk_at dksX4_gotHello_5 17 rfl rfl)
theorem dX4_gotHello_136 : decode cX4_gotHello 136 = .ok (.iload 9, 2) := dk_21 9 (dk_at dksX4_gotHello_5 18 rfl rfl)
theorem dX4_gotHello_138 : decode cX4_gotHello 138 = .ok (.iastore, 1) := dk_79 (dk_at dksX4_gotHello_5 20 rfl rfl)
theorem dX4_gotHello_139 : decode cX4_gotHello 139 = .ok (.dup, 1) := dk_89 (dk_at dksX4_gotHello_5 21 rfl rfl)
theorem dX4_gotHello_140 : decode cX4_gotHello 140 = .ok (.iconst 2, 1) := dk_5 (dk_at dksX4_gotHello_5 22 rfl rfl)
theorem dX4_gotHello_141 : decode cX4_gotHello 141 = .ok (.iconst 3, 1) := dk_6 (dk_at dksX4_gotHello_5 23 rfl rfl)
theorem dX4_gotHello_142 : decode cX4_gotHello 142 = .ok (.newarray .int, 2) := dk_188_10 (dk_at dksX4_gotHello_6 0 rfl rfl)
theorem dX4_gotHello_144 : decode cX4_gotHello 144 = .ok (.dup, 1) := dk_89 (dk_at dksX4_gotHello_6 2 rfl rfl)
theorem dX4_gotHello_145 : decode cX4_gotHello 145 = .ok (.iconst 0, 1) := dk_3 (dk_at dksX4_gotHello_6 3 rfl rfl)
theorem dX4_gotHello_146 : decode cX4_gotHello 146 = .ok (.iconst 3, 1) := dk_6 (dk_at dksX4_gotHello_6 4 rfl rfl)
theorem dX4_gotHello_147 : decode cX4_gotHello 147 = .ok (.iastore, 1) := dk_79 (dk_at dksX4_gotHello_6 5 rfl rfl)
theorem dX4_gotHello_148 : decode cX4_gotHello 148 = .ok (.dup, 1) := dk_89 (dk_at dksX4_gotHello_6 6 rfl rfl)
theorem dX4_gotHello_149 : decode cX4_gotHello 149 = .ok (.iconst 1, 1) := dk_4 (dk_at dksX4_gotHello_6 7 rfl rfl)
theorem dX4_gotHello_150 : decode cX4_gotHello 150 = .ok (.iload_n 1, 1) := dk_27 (dk_at dksX4_gotHello_6 8 rfl rfl)
theorem dX4_gotHello_151 : decode cX4_gotHello 151 = .ok (.invokestatic 132, 3) := dk_184 0 132 (dk_at dksX4_gotHello_6 9 rfl rfl)
theorem dX4_gotHello_154 : decode cX4_gotHello 154 = .ok (.iastore, 1) := dk_79 (dk_at dksX4_gotHello_6 12 rfl rfl)
theorem dX4_gotHello_155 : decode cX4_gotHello 155 = .ok (.dup, 1) := dk_89 (dk_at dksX4_gotHello_6 13 rfl rfl)
theorem dX4_gotHello_156 : decode cX4_gotHello 156 = .ok (.iconst 2, 1) := dk_5 (dk_at dksX4_gotHello_6 14 rfl rfl)
theorem dX4_gotHello_157 : decode cX4_gotHello 157 = .ok (.iload 7, 2) := dk_21 7 (dk_at dksX4_gotHello_6 15 rfl rfl)
theorem dX4_gotHello_159 : decode cX4_gotHello 159 = .ok (.iastore, 1) := dk_79 (dk_at dksX4_gotHello_6 17 rfl rfl)
theorem dX4_gotHello_160 : decode cX4_gotHello 160 = .ok (.invokestatic 138, 3) := dk_184 0 138 (dk_at dksX4_gotHello_6 18 rfl rfl)
theorem dX4_gotHello_163 : decode cX4_gotHello 163 = .ok (.iconst 3, 1) := dk_6 (dk_at dksX4_gotHello_6 21 rfl rfl)
theorem dX4_gotHello_164 : decode cX4_gotHello 164 = .ok (.newarray .int, 2) := dk_188_10 (dk_at dksX4_gotHello_6 22 rfl rfl)
theorem dX4_gotHello_166 : decode cX4_gotHello 166 = .ok (.dup, 1) := dk_89 (dk_at dksX4_gotHello_7 0 rfl rfl)
theorem dX4_gotHello_167 : decode cX4_gotHello 167 = .ok (.iconst 0, 1) := dk_3 (dk_at dksX4_gotHello_7 1 rfl rfl)
theorem dX4_gotHello_168 : decode cX4_gotHello 168 = .ok (.iconst 3, 1) := dk_6 (dk_at dksX4_gotHello_7 2 rfl rfl)
theorem dX4_gotHello_169 : decode cX4_gotHello 169 = .ok (.iastore, 1) := dk_79 (dk_at dksX4_gotHello_7 3 rfl rfl)
theorem dX4_gotHello_170 : decode cX4_gotHello 170 = .ok (.dup, 1) := dk_89 (dk_at dksX4_gotHello_7 4 rfl rfl)
theorem dX4_gotHello_171 : decode cX4_gotHello 171 = .ok (.iconst 1, 1) := dk_4 (dk_at dksX4_gotHello_7 5 rfl rfl)
theorem dX4_gotHello_172 : decode cX4_gotHello 172 = .ok (.iload_n 3, 1) := dk_29 (dk_at dksX4_gotHello_7 6 rfl rfl)
theorem dX4_gotHello_173 : decode cX4_gotHello 173 = .ok (.iastore, 1) := dk_79 (dk_at dksX4_gotHello_7 7 rfl rfl)
theorem dX4_gotHello_174 : decode cX4_gotHello 174 = .ok (.dup, 1) := dk_89 (dk_at dksX4_gotHello_7 8 rfl rfl)
theorem dX4_gotHello_175 : decode cX4_gotHello 175 = .ok (.iconst 2, 1) := dk_5 (dk_at dksX4_gotHello_7 9 rfl rfl)
theorem dX4_gotHello_176 : decode cX4_gotHello 176 = .ok (.iload 9, 2) := dk_21 9 (dk_at dksX4_gotHello_7 10 rfl rfl)
theorem dX4_gotHello_178 : decode cX4_gotHello 178 = .ok (.iastore, 1) := dk_79 (dk_at dksX4_gotHello_7 12 rfl rfl)
theorem dX4_gotHello_179 : decode cX4_gotHello 179 = .ok (.invokestatic 154, 3) := dk_184 0 154 (dk_at dksX4_gotHello_7 13 rfl rfl)
theorem dX4_gotHello_182 : decode cX4_gotHello 182 = .ok (.iastore, 1) := dk_79 (dk_at dksX4_gotHello_7 16 rfl rfl)
theorem dX4_gotHello_183 : decode cX4_gotHello 183 = .ok (.invokevirtual 162, 3) := dk_182 0 162 (dk_at dksX4_gotHello_7 17 rfl rfl)
theorem dX4_gotHello_186 : decode cX4_gotHello 186 = .ok (.bipush (-7), 2) := dk_16 249 (dk_at dksX4_gotHello_7 20 rfl rfl)
theorem dX4_gotHello_188 : decode cX4_gotHello 188 = .ok (.ireturn, 1) := dk_172 (dk_at dksX4_gotHello_7 22 rfl rfl)
theorem dX4_gotHello_189 : decode cX4_gotHello 189 = .ok (.iconst 3, 1) := dk_6 (dk_at dksX4_gotHello_7 23 rfl rfl)
theorem dX4_gotHello_190 : decode cX4_gotHello 190 = .ok (.newarray .int, 2) := dk_188_10 (dk_at dksX4_gotHello_8 0 rfl rfl)
theorem dX4_gotHello_192 : decode cX4_gotHello 192 = .ok (.dup, 1) := dk_89 (dk_at dksX4_gotHello_8 2 rfl rfl)
theorem dX4_gotHello_193 : decode cX4_gotHello 193 = .ok (.iconst 0, 1) := dk_3 (dk_at dksX4_gotHello_8 3 rfl rfl)
theorem dX4_gotHello_194 : decode cX4_gotHello 194 = .ok (.iconst 1, 1) := dk_4 (dk_at dksX4_gotHello_8 4 rfl rfl)
theorem dX4_gotHello_195 : decode cX4_gotHello 195 = .ok (.iastore, 1) := dk_79 (dk_at dksX4_gotHello_8 5 rfl rfl)
theorem dX4_gotHello_196 : decode cX4_gotHello 196 = .ok (.dup, 1) := dk_89 (dk_at dksX4_gotHello_8 6 rfl rfl)
theorem dX4_gotHello_197 : decode cX4_gotHello 197 = .ok (.iconst 1, 1) := dk_4 (dk_at dksX4_gotHello_8 7 rfl rfl)
theorem dX4_gotHello_198 : decode cX4_gotHello 198 = .ok (.iload_n 1, 1) := dk_27 (dk_at dksX4_gotHello_8 8 rfl rfl)
theorem dX4_gotHello_199 : decode cX4_gotHello 199 = .ok (.invokestatic 118, 3) := dk_184 0 118 (dk_at dksX4_gotHello_8 9 rfl rfl)
theorem dX4_gotHello_202 : decode cX4_gotHello 202 = .ok (.iload 4, 2) := dk_21 4 (dk_at dksX4_gotHello_8 12 rfl rfl)
theorem dX4_gotHello_204 : decode cX4_gotHello 204 = .ok (.invokestatic 135, 3) := dk_184 0 135 (dk_at dksX4_gotHello_8 14 rfl rfl)
theorem dX4_gotHello_207 : decode cX4_gotHello 207 = .ok (.iastore, 1) := dk_79 (dk_at dksX4_gotHello_8 17 rfl rfl)
theorem dX4_gotHello_208 : decode cX4_gotHello 208 = .ok (.dup, 1) := dk_89 (dk_at dksX4_gotHello_8 18 rfl rfl)
theorem dX4_gotHello_209 : decode cX4_gotHello 209 = .ok (.iconst 2, 1) := dk_5 (dk_at dksX4_gotHello_8 19 rfl rfl)
theorem dX4_gotHello_210 : decode cX4_gotHello 210 = .ok (.iload_n 1, 1) := dk_27 (dk_at dksX4_gotHello_8 20 rfl rfl)
theorem dX4_gotHello_211 : decode cX4_gotHello 211 = .ok (.invokestatic 118, 3) := dk_184 0 118 (dk_at dksX4_gotHello_8 21 rfl rfl)
theorem dX4_gotHello_214 : decode cX4_gotHello 214 = .ok (.iload 8, 2) := dk_21 8 (dk_at dksX4_gotHello_9 0 rfl rfl)
theorem dX4_gotHello_216 : decode cX4_gotHello 216 = .ok (.invokestatic 132, 3) := dk_184 0 132 (dk_at dksX4_gotHello_9 2 rfl rfl)
theorem dX4_gotHello_219 : decode cX4_gotHello 219 = .ok (.invokestatic 135, 3) := dk_184 0 135 (dk_at dksX4_gotHello_9 5 rfl rfl)
theorem dX4_gotHello_222 : decode cX4_gotHello 222 = .ok (.iastore, 1) := dk_79 (dk_at dksX4_gotHello_9 8 rfl rfl)
theorem dX4_gotHello_223 : decode cX4_gotHello 223 = .ok (.invokestatic 138, 3) := dk_184 0 138 (dk_at dksX4_gotHello_9 9 rfl rfl)
theorem dX4_gotHello_226 : decode cX4_gotHello 226 = .ok (.istore 10, 2) := dk_54 10 (dk_at dksX4_gotHello_9 12 rfl rfl)
theorem dX4_gotHello_228 : decode cX4_gotHello 228 = .ok (.iload 7, 2) := dk_21 7 (dk_at dksX4_gotHello_9 14 rfl rfl)
theorem dX4_gotHello_230 : decode cX4_gotHello 230 = .ok (.iload 10, 2) := dk_21 10 (dk_at dksX4_gotHello_9 16 rfl rfl)
theorem dX4_gotHello_232 : decode cX4_gotHello 232 = .ok (.iconst 5, 1) := dk_8 (dk_at dksX4_gotHello_9 18 rfl rfl)
theorem dX4_gotHello_233 : decode cX4_gotHello 233 = .ok (.newarray .int, 2) := dk_188_10 (dk_at dksX4_gotHello_9 19 rfl rfl)
theorem dX4_gotHello_235 : decode cX4_gotHello 235 = .ok (.dup, 1) := dk_89 (dk_at dksX4_gotHello_9 21 rfl rfl)
theorem dX4_gotHello_236 : decode cX4_gotHello 236 = .ok (.iconst 0, 1) := dk_3 (dk_at dksX4_gotHello_9 22 rfl rfl)
theorem dX4_gotHello_237 : decode cX4_gotHello 237 = .ok (.iconst 1, 1) := dk_4 (dk_at dksX4_gotHello_9 23 rfl rfl)
theorem dX4_gotHello_238 : decode cX4_gotHello 238 = .ok (.iastore, 1) := dk_79 (dk_at dksX4_gotHello_10 0 rfl rfl)
theorem dX4_gotHello_239 : decode cX4_gotHello 239 = .ok (.dup, 1) := dk_89 (dk_at dksX4_gotHello_10 1 rfl rfl)
theorem dX4_gotHello_240 : decode cX4_gotHello 240 = .ok (.iconst 1, 1) := dk_4 (dk_at dksX4_gotHello_10 2 rfl rfl)
theorem dX4_gotHello_241 : decode cX4_gotHello 241 = .ok (.iload_n 3, 1) := dk_29 (dk_at dksX4_gotHello_10 3 rfl rfl)
theorem dX4_gotHello_242 : decode cX4_gotHello 242 = .ok (.iastore, 1) := dk_79 (dk_at dksX4_gotHello_10 4 rfl rfl)
theorem dX4_gotHello_243 : decode cX4_gotHello 243 = .ok (.dup, 1) := dk_89 (dk_at dksX4_gotHello_10 5 rfl rfl)
theorem dX4_gotHello_244 : decode cX4_gotHello 244 = .ok (.iconst 2, 1) := dk_5 (dk_at dksX4_gotHello_10 6 rfl rfl)
theorem dX4_gotHello_245 : decode cX4_gotHello 245 = .ok (.iload 4, 2) := dk_21 4 (dk_at dksX4_gotHello_10 7 rfl rfl)
theorem dX4_gotHello_247 : decode cX4_gotHello 247 = .ok (.iastore, 1) := dk_79 (dk_at dksX4_gotHello_10 9 rfl rfl)
theorem dX4_gotHello_248 : decode cX4_gotHello 248 = .ok (.dup, 1) := dk_89 (dk_at dksX4_gotHello_10 10 rfl rfl)
theorem dX4_gotHello_249 : decode cX4_gotHello 249 = .ok (.iconst 3, 1) := dk_6 (dk_at dksX4_gotHello_10 11 rfl rfl)
theorem dX4_gotHello_250 : decode cX4_gotHello 250 = .ok (.iload 5, 2) := dk_21 5 (dk_at dksX4_gotHello_10 12 rfl rfl)
theorem dX4_gotHello_252 : decode cX4_gotHello 252 = .ok (.iastore, 1) := dk_79 (dk_at dksX4_gotHello_10 14 rfl rfl)
theorem dX4_gotHello_253 : decode cX4_gotHello 253 = .ok (.dup, 1) := dk_89 (dk_at dksX4_gotHello_10 15 rfl rfl)
theorem dX4_gotHello_254 : decode cX4_gotHello 254 = .ok (.iconst 4, 1) := dk_7 (dk_at dksX4_gotHello_10 16 rfl rfl)
theorem dX4_gotHello_255 : decode cX4_gotHello 255 = .ok (.iload 6, 2) := dk_21 6 (dk_at dksX4_gotHello_10 17 rfl rfl)
theorem dX4_gotHello_257 : decode cX4_gotHello 257 = .ok (.iastore, 1) := dk_79 (dk_at dksX4_gotHello_10 19 rfl rfl)
theorem dX4_gotHello_258 : decode cX4_gotHello 258 = .ok (.invokestatic 154, 3) := dk_184 0 154 (dk_at dksX4_gotHello_10 20 rfl rfl)
theorem dX4_gotHello_261 : decode cX4_gotHello 261 = .ok (.if_icmp .eq 6, 3) := dk_159 0 6 (dk_at dksX4_gotHello_11 0 rfl rfl)
theorem dX4_gotHello_264 : decode cX4_gotHello 264 = .ok (.bipush (-2), 2) := dk_16 254 (dk_at dksX4_gotHello_11 3 rfl rfl)
theorem dX4_gotHello_266 : decode cX4_gotHello 266 = .ok (.ireturn, 1) := dk_172 (dk_at dksX4_gotHello_11 5 rfl rfl)
theorem dX4_gotHello_267 : decode cX4_gotHello 267 = .ok (.iload 6, 2) := dk_21 6 (dk_at dksX4_gotHello_11 6 rfl rfl)
theorem dX4_gotHello_269 : decode cX4_gotHello 269 = .ok (.aload_n 0, 1) := dk_42 (dk_at dksX4_gotHello_11 8 rfl rfl)
theorem dX4_gotHello_270 : decode cX4_gotHello 270 = .ok (.getfield 40, 3) := dk_180 0 40 (dk_at dksX4_gotHello_11 9 rfl rfl)
theorem dX4_gotHello_273 : decode cX4_gotHello 273 = .ok (.iload_n 1, 1) := dk_27 (dk_at dksX4_gotHello_11 12 rfl rfl)
theorem dX4_gotHello_274 : decode cX4_gotHello 274 = .ok (.aaload, 1) := dk_50 (dk_at dksX4_gotHello_11 13 rfl rfl)
theorem dX4_gotHello_275 : decode cX4_gotHello 275 = .ok (.iload 8, 2) := dk_21 8 (dk_at dksX4_gotHello_11 14 rfl rfl)
theorem dX4_gotHello_277 : decode cX4_gotHello 277 = .ok (.iaload, 1) := dk_46 (dk_at dksX4_gotHello_11 16 rfl rfl)
theorem dX4_gotHello_278 : decode cX4_gotHello 278 = .ok (.if_icmp .gt 6, 3) := dk_163 0 6 (dk_at dksX4_gotHello_11 17 rfl rfl)
theorem dX4_gotHello_281 : decode cX4_gotHello 281 = .ok (.bipush (-6), 2) := dk_16 250 (dk_at dksX4_gotHello_11 20 rfl rfl)
theorem dX4_gotHello_283 : decode cX4_gotHello 283 = .ok (.ireturn, 1) := dk_172 (dk_at dksX4_gotHello_11 22 rfl rfl)
theorem dX4_gotHello_284 : decode cX4_gotHello 284 = .ok (.aload_n 0, 1) := dk_42 (dk_at dksX4_gotHello_11 23 rfl rfl)
theorem dX4_gotHello_285 : decode cX4_gotHello 285 = .ok (.getfield 40, 3) := dk_180 0 40 (dk_at dksX4_gotHello_12 0 rfl rfl)
theorem dX4_gotHello_288 : decode cX4_gotHello 288 = .ok (.iload_n 1, 1) := dk_27 (dk_at dksX4_gotHello_12 3 rfl rfl)
theorem dX4_gotHello_289 : decode cX4_gotHello 289 = .ok (.aaload, 1) := dk_50 (dk_at dksX4_gotHello_12 4 rfl rfl)
theorem dX4_gotHello_290 : decode cX4_gotHello 290 = .ok (.iload 8, 2) := dk_21 8 (dk_at dksX4_gotHello_12 5 rfl rfl)
theorem dX4_gotHello_292 : decode cX4_gotHello 292 = .ok (.iload 6, 2) := dk_21 6 (dk_at dksX4_gotHello_12 7 rfl rfl)
theorem dX4_gotHello_294 : decode cX4_gotHello 294 = .ok (.iastore, 1) := dk_79 (dk_at dksX4_gotHello_12 9 rfl rfl)
theorem dX4_gotHello_295 : decode cX4_gotHello 295 = .ok (.aload_n 0, 1) := dk_42 (dk_at dksX4_gotHello_12 10 rfl rfl)
theorem dX4_gotHello_296 : decode cX4_gotHello 296 = .ok (.getfield 37, 3) := dk_180 0 37 (dk_at dksX4_gotHello_12 11 rfl rfl)
theorem dX4_gotHello_299 : decode cX4_gotHello 299 = .ok (.iload_n 1, 1) := dk_27 (dk_at dksX4_gotHello_12 14 rfl rfl)
theorem dX4_gotHello_300 : decode cX4_gotHello 300 = .ok (.aaload, 1) := dk_50 (dk_at dksX4_gotHello_12 15 rfl rfl)
theorem dX4_gotHello_301 : decode cX4_gotHello 301 = .ok (.iload 8, 2) := dk_21 8 (dk_at dksX4_gotHello_12 16 rfl rfl)
theorem dX4_gotHello_303 : decode cX4_gotHello 303 = .ok (.aload_n 2, 1) := dk_44 (dk_at dksX4_gotHello_12 18 rfl rfl)
theorem dX4_gotHello_304 : decode cX4_gotHello 304 = .ok (.iconst 0, 1) := dk_3 (dk_at dksX4_gotHello_12 19 rfl rfl)
theorem dX4_gotHello_305 : decode cX4_gotHello 305 = .ok (.iaload, 1) := dk_46 (dk_at dksX4_gotHello_12 20 rfl rfl)
theorem dX4_gotHello_306 : decode cX4_gotHello 306 = .ok (.iastore, 1) := dk_79 (dk_at dksX4_gotHello_12 21 rfl rfl)
theorem dX4_gotHello_307 : decode cX4_gotHello 307 = .ok (.aload_n 0, 1) := dk_42 (dk_at dksX4_gotHello_12 22 rfl rfl)
theorem dX4_gotHello_308 : decode cX4_gotHello 308 = .ok (.dup, 1) := dk_89 (dk_at dksX4_gotHello_12 23 rfl rfl)
theorem dX4_gotHello_309 : decode cX4_gotHello 309 = .ok (.getfield 7, 3) := dk_180 0 7 (dk_at dksX4_gotHello_13 0 rfl rfl)
theorem dX4_gotHello_312 : decode cX4_gotHello 312 = .ok (.dup_x1, 1) := dk_90 (dk_at dksX4_gotHello_13 3 rfl rfl)
theorem dX4_gotHello_313 : decode cX4_gotHello 313 = .ok (.iconst 1, 1) := dk_4 (dk_at dksX4_gotHello_13 4 rfl rfl)
theorem dX4_gotHello_314 : decode cX4_gotHello 314 = .ok (.iadd, 1) := dk_96 (dk_at dksX4_gotHello_13 5 rfl rfl)
theorem dX4_gotHello_315 : decode cX4_gotHello 315 = .ok (.putfield 7, 3) := dk_181 0 7 (dk_at dksX4_gotHello_13 6 rfl rfl)
theorem dX4_gotHello_318 : decode cX4_gotHello 318 = .ok (.istore 11, 2) := dk_54 11 (dk_at dksX4_gotHello_13 9 rfl rfl)
theorem dX4_gotHello_320 : decode cX4_gotHello 320 = .ok (.iload 11, 2) := dk_21 11 (dk_at dksX4_gotHello_13 11 rfl rfl)
theorem dX4_gotHello_322 : decode cX4_gotHello 322 = .ok (.invokestatic 142, 3) := dk_184 0 142 (dk_at dksX4_gotHello_13 13 rfl rfl)
theorem dX4_gotHello_325 : decode cX4_gotHello 325 = .ok (.istore 12, 2) := dk_54 12 (dk_at dksX4_gotHello_13 16 rfl rfl)
theorem dX4_gotHello_327 : decode cX4_gotHello 327 = .ok (.iconst 4, 1) := dk_7 (dk_at dksX4_gotHello_13 18 rfl rfl)
theorem dX4_gotHello_328 : decode cX4_gotHello 328 = .ok (.newarray .int, 2) := dk_188_10 (dk_at dksX4_gotHello_13 19 rfl rfl)
theorem dX4_gotHello_330 : decode cX4_gotHello 330 = .ok (.dup, 1) := dk_89 (dk_at dksX4_gotHello_13 21 rfl rfl)
theorem dX4_gotHello_331 : decode cX4_gotHello 331 = .ok (.iconst 0, 1) := dk_3 (dk_at dksX4_gotHello_13 22 rfl rfl)
theorem dX4_gotHello_332 : decode cX4_gotHello 332 = .ok (.iconst 4, 1) := dk_7 (dk_at dksX4_gotHello_13 23 rfl rfl)
theorem dX4_gotHello_333 : decode cX4_gotHello 333 = .ok (.iastore, 1) := dk_79 (dk_at dksX4_gotHello_14 0 rfl rfl)
theorem dX4_gotHello_334 : decode cX4_gotHello 334 = .ok (.dup, 1) := dk_89 (dk_at dksX4_gotHello_14 1 rfl rfl)
theorem dX4_gotHello_335 : decode cX4_gotHello 335 = .ok (.iconst 1, 1) := dk_4 (dk_at dksX4_gotHello_14 2 rfl rfl)
theorem dX4_gotHello_336 : decode cX4_gotHello 336 = .ok (.iload 10, 2) := dk_21 10 (dk_at dksX4_gotHello_14 3 rfl rfl)
theorem dX4_gotHello_338 : decode cX4_gotHello 338 = .ok (.iastore, 1) := dk_79 (dk_at dksX4_gotHello_14 5 rfl rfl)
theorem dX4_gotHello_339 : decode cX4_gotHello 339 = .ok (.dup, 1) := dk_89 (dk_at dksX4_gotHello_14 6 rfl rfl)
theorem dX4_gotHello_340 : decode cX4_gotHello 340 = .ok (.iconst 2, 1) := dk_5 (dk_at dksX4_gotHello_14 7 rfl rfl)
theorem dX4_gotHello_341 : decode cX4_gotHello 341 = .ok (.iload 12, 2) := dk_21 12 (dk_at dksX4_gotHello_14 8 rfl rfl)
theorem dX4_gotHello_343 : decode cX4_gotHello 343 = .ok (.iload 4, 2) := dk_21 4 (dk_at dksX4_gotHello_14 10 rfl rfl)
theorem dX4_gotHello_345 : decode cX4_gotHello 345 = .ok (.invokestatic 135, 3) := dk_184 0 135 (dk_at dksX4_gotHello_14 12 rfl rfl)
theorem dX4_gotHello_348 : decode cX4_gotHello 348 = .ok (.iastore, 1) := dk_79 (dk_at dksX4_gotHello_14 15 rfl rfl)
theorem dX4_gotHello_349 : decode cX4_gotHello 349 = .ok (.dup, 1) := dk_89 (dk_at dksX4_gotHello_14 16 rfl rfl)
theorem dX4_gotHello_350 : decode cX4_gotHello 350 = .ok (.iconst 3, 1) := dk_6 (dk_at dksX4_gotHello_14 17 rfl rfl)
theorem dX4_gotHello_351 : decode cX4_gotHello 351 = .ok (.iload 12, 2) := dk_21 12 (dk_at dksX4_gotHello_14 18 rfl rfl)
theorem dX4_gotHello_353 : decode cX4_gotHello 353 = .ok (.iload 8, 2) := dk_21 8 (dk_at dksX4_gotHello_14 20 rfl rfl)
theorem dX4_gotHello_355 : decode cX4_gotHello 355 = .ok (.invokestatic 132, 3) := dk_184 0 132 (dk_at dksX4_gotHello_15 0 rfl rfl)
theorem dX4_gotHello_358 : decode cX4_gotHello 358 = .ok (.invokestatic 135, 3) := dk_184 0 135 (dk_at dksX4_gotHello_15 3 rfl rfl)
theorem dX4_gotHello_361 : decode cX4_gotHello 361 = .ok (.iastore, 1) := dk_79 (dk_at dksX4_gotHello_15 6 rfl rfl)
theorem dX4_gotHello_362 : decode cX4_gotHello 362 = .ok (.invokestatic 138, 3) := dk_184 0 138 (dk_at dksX4_gotHello_15 7 rfl rfl)
theorem dX4_gotHello_365 : decode cX4_gotHello 365 = .ok (.istore 13, 2) := dk_54 13 (dk_at dksX4_gotHello_15 10 rfl rfl)
theorem dX4_gotHello_367 : decode cX4_gotHello 367 = .ok (.aload_n 0, 1) := dk_42 (dk_at dksX4_gotHello_15 12 rfl rfl)
theorem dX4_gotHello_368 : decode cX4_gotHello 368 = .ok (.aload_n 0, 1) := dk_42 (dk_at dksX4_gotHello_15 13 rfl rfl)
theorem dX4_gotHello_369 : decode cX4_gotHello 369 = .ok (.getfield 13, 3) := dk_180 0 13 (dk_at dksX4_gotHello_15 14 rfl rfl)
theorem dX4_gotHello_372 : decode cX4_gotHello 372 = .ok (.iload_n 1, 1) := dk_27 (dk_at dksX4_gotHello_15 17 rfl rfl)
theorem dX4_gotHello_373 : decode cX4_gotHello 373 = .ok (.iaload, 1) := dk_46 (dk_at dksX4_gotHello_15 18 rfl rfl)
theorem dX4_gotHello_374 : decode cX4_gotHello 374 = .ok (.aload_n 2, 1) := dk_44 (dk_at dksX4_gotHello_15 19 rfl rfl)
theorem dX4_gotHello_375 : decode cX4_gotHello 375 = .ok (.iconst 0, 1) := dk_3 (dk_at dksX4_gotHello_15 20 rfl rfl)
theorem dX4_gotHello_376 : decode cX4_gotHello 376 = .ok (.iaload, 1) := dk_46 (dk_at dksX4_gotHello_15 21 rfl rfl)
theorem dX4_gotHello_377 : decode cX4_gotHello 377 = .ok (.iconst 2, 1) := dk_5 (dk_at dksX4_gotHello_15 22 rfl rfl)
theorem dX4_gotHello_378 : decode cX4_gotHello 378 = .ok (.iconst 4, 1) := dk_7 (dk_at dksX4_gotHello_15 23 rfl rfl)
theorem dX4_gotHello_379 : decode cX4_gotHello 379 = .ok (.newarray .int, 2) := dk_188_10 (dk_at dksX4_gotHello_16 0 rfl rfl)
theorem dX4_gotHello_381 : decode cX4_gotHello 381 = .ok (.dup, 1) := dk_89 (dk_at dksX4_gotHello_16 2 rfl rfl)
theorem dX4_gotHello_382 : decode cX4_gotHello 382 = .ok (.iconst 0, 1) := dk_3 (dk_at dksX4_gotHello_16 3 rfl rfl)
theorem dX4_gotHello_383 : decode cX4_gotHello 383 = .ok (.iload 11, 2) := dk_21 11 (dk_at dksX4_gotHello_16 4 rfl rfl)
theorem dX4_gotHello_385 : decode cX4_gotHello 385 = .ok (.iastore, 1) := dk_79 (dk_at dksX4_gotHello_16 6 rfl rfl)
theorem dX4_gotHello_386 : decode cX4_gotHello 386 = .ok (.dup, 1) := dk_89 (dk_at dksX4_gotHello_16 7 rfl rfl)
theorem dX4_gotHello_387 : decode cX4_gotHello 387 = .ok (.iconst 1, 1) := dk_4 (dk_at dksX4_gotHello_16 8 rfl rfl)
theorem dX4_gotHello_388 : decode cX4_gotHello 388 = .ok (.iload_n 3, 1) := dk_29 (dk_at dksX4_gotHello_16 9 rfl rfl)
theorem dX4_gotHello_389 : decode cX4_gotHello 389 = .ok (.iastore, 1) := dk_79 (dk_at dksX4_gotHello_16 10 rfl rfl)
theorem dX4_gotHello_390 : decode cX4_gotHello 390 = .ok (.dup, 1) := dk_89 (dk_at dksX4_gotHello_16 11 rfl rfl)
theorem dX4_gotHello_391 : decode cX4_gotHello 391 = .ok (.iconst 2, 1) := dk_5 (dk_at dksX4_gotHello_16 12 rfl rfl)
theorem dX4_gotHello_392 : decode cX4_gotHello 392 = .ok (.iload 12, 2) := dk_21 12 (dk_at dksX4_gotHello_16 13 rfl rfl)
theorem dX4_gotHello_394 : decode cX4_gotHello 394 = .ok (.invokestatic 122, 3) := dk_184 0 122 (dk_at dksX4_gotHello_16 15 rfl rfl)
theorem dX4_gotHello_397 : decode cX4_gotHello 397 = .ok (.iastore, 1) := dk_79 (dk_at dksX4_gotHello_16 18 rfl rfl)
theorem dX4_gotHello_398 : decode cX4_gotHello 398 = .ok (.dup, 1) := dk_89 (dk_at dksX4_gotHello_16 19 rfl rfl)
theorem dX4_gotHello_399 : decode cX4_gotHello 399 = .ok (.iconst 3, 1) := dk_6 (dk_at dksX4_gotHello_16 20 rfl rfl)
theorem dX4_gotHello_400 : decode cX4_gotHello 400 = .ok (.iload 13, 2) := dk_21 13 (dk_at dksX4_gotHello_16 21 rfl rfl)
theorem dX4_gotHello_402 : decode cX4_gotHello 402 = .ok (.iconst 4, 1) := dk_7 (dk_at dksX4_gotHello_16 23 rfl rfl)
theorem dX4_gotHello_403 : decode cX4_gotHello 403 = .ok (.newarray .int, 2) := dk_188_10 (dk_at dksX4_gotHello_17 0 rfl rfl)
theorem dX4_gotHello_405 : decode cX4_gotHello 405 = .ok (.dup, 1) := dk_89 (dk_at dksX4_gotHello_17 2 rfl rfl)
theorem dX4_gotHello_406 : decode cX4_gotHello 406 = .ok (.iconst 0, 1) := dk_3 (dk_at dksX4_gotHello_17 3 rfl rfl)
theorem dX4_gotHello_407 : decode cX4_gotHello 407 = .ok (.iconst 2, 1) := dk_5 (dk_at dksX4_gotHello_17 4 rfl rfl)
theorem dX4_gotHello_408 : decode cX4_gotHello 408 = .ok (.iastore, 1) := dk_79 (dk_at dksX4_gotHello_17 5 rfl rfl)
theorem dX4_gotHello_409 : decode cX4_gotHello 409 = .ok (.dup, 1) := dk_89 (dk_at dksX4_gotHello_17 6 rfl rfl)
theorem dX4_gotHello_410 : decode cX4_gotHello 410 = .ok (.iconst 1, 1) := dk_4 (dk_at dksX4_gotHello_17 7 rfl rfl)
theorem dX4_gotHello_411 : decode cX4_gotHello 411 = .ok (.iload 11, 2) := dk_21 11 (dk_at dksX4_gotHello_17 8 rfl rfl)
theorem dX4_gotHello_413 : decode cX4_gotHello 413 = .ok (.iastore, 1) := dk_79 (dk_at dksX4_gotHello_17 10 rfl rfl)
theorem dX4_gotHello_414 : decode cX4_gotHello 414 = .ok (.dup, 1) := dk_89 (dk_at dksX4_gotHello_17 11 rfl rfl)
theorem dX4_gotHello_415 : decode cX4_gotHello 415 = .ok (.iconst 2, 1) := dk_5 (dk_at dksX4_gotHello_17 12 rfl rfl)
theorem dX4_gotHello_416 : decode cX4_gotHello 416 = .ok (.iload_n 3, 1) := dk_29 (dk_at dksX4_gotHello_17 13 rfl rfl)
theorem dX4_gotHello_417 : decode cX4_gotHello 417 = .ok (.iastore, 1) := dk_79 (dk_at dksX4_gotHello_17 14 rfl rfl)
theorem dX4_gotHello_418 : decode cX4_gotHello 418 = .ok (.dup, 1) := dk_89 (dk_at dksX4_gotHello_17 15 rfl rfl)
theorem dX4_gotHello_419 : decode cX4_gotHello 419 = .ok (.iconst 3, 1) := dk_6 (dk_at dksX4_gotHello_17 16 rfl rfl)
theorem dX4_gotHello_420 : decode cX4_gotHello 420 = .ok (.iload 12, 2) := dk_21 12 (dk_at dksX4_gotHello_17 17 rfl rfl)
theorem dX4_gotHello_422 : decode cX4_gotHello 422 = .ok (.invokestatic 122, 3) := dk_184 0 122 (dk_at dksX4_gotHello_17 19 rfl rfl)
theorem dX4_gotHello_425 : decode cX4_gotHello 425 = .ok (.iastore, 1) := dk_79 (dk_at dksX4_gotHello_17 22 rfl rfl)
theorem dX4_gotHello_426 : decode cX4_gotHello 426 = .ok (.invokestatic 154, 3) := dk_184 0 154 (dk_at dksX4_gotHello_18 0 rfl rfl)
theorem dX4_gotHello_429 : decode cX4_gotHello 429 = .ok (.iastore, 1) := dk_79 (dk_at dksX4_gotHello_18 3 rfl rfl)
theorem dX4_gotHello_430 : decode cX4_gotHello 430 = .ok (.invokevirtual 162, 3) := dk_182 0 162 (dk_at dksX4_gotHello_18 4 rfl rfl)
theorem dX4_gotHello_433 : decode cX4_gotHello 433 = .ok (.aload_n 0, 1) := dk_42 (dk_at dksX4_gotHello_18 7 rfl rfl)
theorem dX4_gotHello_434 : decode cX4_gotHello 434 = .ok (.iload_n 1, 1) := dk_27 (dk_at dksX4_gotHello_18 8 rfl rfl)
theorem dX4_gotHello_435 : decode cX4_gotHello 435 = .ok (.iload 8, 2) := dk_21 8 (dk_at dksX4_gotHello_18 9 rfl rfl)
theorem dX4_gotHello_437 : decode cX4_gotHello 437 = .ok (.iconst 2, 1) := dk_5 (dk_at dksX4_gotHello_18 11 rfl rfl)
theorem dX4_gotHello_438 : decode cX4_gotHello 438 = .ok (.iload 11, 2) := dk_21 11 (dk_at dksX4_gotHello_18 12 rfl rfl)
theorem dX4_gotHello_440 : decode cX4_gotHello 440 = .ok (.iload_n 3, 1) := dk_29 (dk_at dksX4_gotHello_18 14 rfl rfl)
theorem dX4_gotHello_441 : decode cX4_gotHello 441 = .ok (.iconst 3, 1) := dk_6 (dk_at dksX4_gotHello_18 15 rfl rfl)
theorem dX4_gotHello_442 : decode cX4_gotHello 442 = .ok (.newarray .int, 2) := dk_188_10 (dk_at dksX4_gotHello_18 16 rfl rfl)
theorem dX4_gotHello_444 : decode cX4_gotHello 444 = .ok (.dup, 1) := dk_89 (dk_at dksX4_gotHello_18 18 rfl rfl)
theorem dX4_gotHello_445 : decode cX4_gotHello 445 = .ok (.iconst 0, 1) := dk_3 (dk_at dksX4_gotHello_18 19 rfl rfl)
theorem dX4_gotHello_446 : decode cX4_gotHello 446 = .ok (.iconst 5, 1) := dk_8 (dk_at dksX4_gotHello_18 20 rfl rfl)
theorem dX4_gotHello_447 : decode cX4_gotHello 447 = .ok (.iastore, 1) := dk_79 (dk_at dksX4_gotHello_18 21 rfl rfl)
theorem dX4_gotHello_448 : decode cX4_gotHello 448 = .ok (.dup, 1) := dk_89 (dk_at dksX4_gotHello_18 22 rfl rfl)
theorem dX4_gotHello_449 : decode cX4_gotHello 449 = .ok (.iconst 1, 1) := dk_4 (dk_at dksX4_gotHello_18 23 rfl rfl)
theorem dX4_gotHello_450 : decode cX4_gotHello 450 = .ok (.iload 13, 2) := dk_21 13 (dk_at dksX4_gotHello_19 0 rfl rfl)
theorem dX4_gotHello_452 : decode cX4_gotHello 452 = .ok (.iastore, 1) := dk_79 (dk_at dksX4_gotHello_19 2 rfl rfl)
theorem dX4_gotHello_453 : decode cX4_gotHello 453 = .ok (.dup, 1) := dk_89 (dk_at dksX4_gotHello_19 3 rfl rfl)
theorem dX4_gotHello_454 : decode cX4_gotHello 454 = .ok (.iconst 2, 1) := dk_5 (dk_at dksX4_gotHello_19 4 rfl rfl)
theorem dX4_gotHello_455 : decode cX4_gotHello 455 = .ok (.iconst 1, 1) := dk_4 (dk_at dksX4_gotHello_19 5 rfl rfl)
theorem dX4_gotHello_456 : decode cX4_gotHello 456 = .ok (.iastore, 1) := dk_79 (dk_at dksX4_gotHello_19 6 rfl rfl)
theorem dX4_gotHello_457 : decode cX4_gotHello 457 = .ok (.invokestatic 138, 3) := dk_184 0 138 (dk_at dksX4_gotHello_19 7 rfl rfl)
theorem dX4_gotHello_460 : decode cX4_gotHello 460 = .ok (.iconst 3, 1) := dk_6 (dk_at dksX4_gotHello_19 10 rfl rfl)
theorem dX4_gotHello_461 : decode cX4_gotHello 461 = .ok (.newarray .int, 2) := dk_188_10 (dk_at dksX4_gotHello_19 11 rfl rfl)
theorem dX4_gotHello_463 : decode cX4_gotHello 463 = .ok (.dup, 1) := dk_89 (dk_at dksX4_gotHello_19 13 rfl rfl)
theorem dX4_gotHello_464 : decode cX4_gotHello 464 = .ok (.iconst 0, 1) := dk_3 (dk_at dksX4_gotHello_19 14 rfl rfl)
theorem dX4_gotHello_465 : decode cX4_gotHello 465 = .ok (.iconst 5, 1) := dk_8 (dk_at dksX4_gotHello_19 15 rfl rfl)
theorem dX4_gotHello_466 : decode cX4_gotHello 466 = .ok (.iastore, 1) := dk_79 (dk_at dksX4_gotHello_19 16 rfl rfl)
theorem dX4_gotHello_467 : decode cX4_gotHello 467 = .ok (.dup, 1) := dk_89 (dk_at dksX4_gotHello_19 17 rfl rfl)
theorem dX4_gotHello_468 : decode cX4_gotHello 468 = .ok (.iconst 1, 1) := dk_4 (dk_at dksX4_gotHello_19 18 rfl rfl)
theorem dX4_gotHello_469 : decode cX4_gotHello 469 = .ok (.iload 13, 2) := dk_21 13 (dk_at dksX4_gotHello_19 19 rfl rfl)
theorem dX4_gotHello_471 : decode cX4_gotHello 471 = .ok (.iastore, 1) := dk_79 (dk_at dksX4_gotHello_19 21 rfl rfl)
theorem dX4_gotHello_472 : decode cX4_gotHello 472 = .ok (.dup, 1) := dk_89 (dk_at dksX4_gotHello_19 22 rfl rfl)
theorem dX4_gotHello_473 : decode cX4_gotHello 473 = .ok (.iconst 2, 1) := dk_5 (dk_at dksX4_gotHello_19 23 rfl rfl)
theorem dX4_gotHello_474 : decode cX4_gotHello 474 = .ok (.iconst 0, 1) := dk_3 (dk_at dksX4_gotHello_20 0 rfl rfl)
theorem dX4_gotHello_475 : decode cX4_gotHello 475 = .ok (.iastore, 1) := dk_79 (dk_at dksX4_gotHello_20 1 rfl rfl)
theorem dX4_gotHello_476 : decode cX4_gotHello 476 = .ok (.invokestatic 138, 3) := dk_184 0 138 (dk_at dksX4_gotHello_20 2 rfl rfl)
theorem dX4_gotHello_479 : decode cX4_gotHello 479 = .ok (.iconst 0, 1) := dk_3 (dk_at dksX4_gotHello_20 5 rfl rfl)
theorem dX4_gotHello_480 : decode cX4_gotHello 480 = .ok (.invokevirtual 180, 3) := dk_182 0 180 (dk_at dksX4_gotHello_20 6 rfl rfl)
theorem dX4_gotHello_483 : decode cX4_gotHello 483 = .ok (.iconst 3, 1) := dk_6 (dk_at dksX4_gotHello_20 9 rfl rfl)
theorem dX4_gotHello_484 : decode cX4_gotHello 484 = .ok (.ireturn, 1) := dk_172 (dk_at dksX4_gotHello_20 10 rfl rfl)
abbrev cX4_make : ByteArray := prog_8_method_27_code
def yX4_make : MethodName := ⟨RX4, "make", "(IIIIIIII)V"⟩
def dkwX4_make_3 : List UInt8 := [16, 40, 188, 4, 83, 177]
abbrev dktX4_make_3 : List UInt8 := dkwX4_make_3 ++ []
def dkwX4_make_2 : List UInt8 := [21, 8, 79, 89, 16, 7, 2, 79, 89, 16, 8, 3, 79, 83, 42, 180, 0, 77, 27, 50, 28, 50, 29]
abbrev dktX4_make_2 : List UInt8 := dkwX4_make_2 ++ dktX4_make_3
def dkwX4_make_1 : List UInt8 := [5, 42, 180, 0, 129, 79, 89, 6, 21, 6, 79, 89, 7, 21, 7, 79, 89, 8, 3, 79, 89, 16, 6]
abbrev dktX4_make_1 : List UInt8 := dkwX4_make_1 ++ dktX4_make_2
def dkwX4_make_0 : List UInt8 := [42, 180, 0, 72, 27, 50, 28, 50, 29, 16, 9, 188, 10, 89, 3, 21, 4, 79, 89, 4, 21, 5, 79, 89]
abbrev dktX4_make_0 : List UInt8 := dkwX4_make_0 ++ dktX4_make_1
theorem dksX4_make_0 : cX4_make.data.toList.drop 0 = dktX4_make_0 := by decide +kernel
theorem dksX4_make_1 : cX4_make.data.toList.drop 24 = dktX4_make_1 := dk_seg dksX4_make_0 24 rfl rfl
theorem dksX4_make_2 : cX4_make.data.toList.drop 47 = dktX4_make_2 := dk_seg dksX4_make_1 23 rfl rfl
theorem dksX4_make_3 : cX4_make.data.toList.drop 70 = dktX4_make_3 := dk_seg dksX4_make_2 23 rfl rfl
theorem dX4_make_0 : decode cX4_make 0 = .ok (.aload_n 0, 1) := dk_42 (dk_at dksX4_make_0 0 rfl rfl)
theorem dX4_make_1 : decode cX4_make 1 = .ok (.getfield 72, 3) := dk_180 0 72 (dk_at dksX4_make_0 1 rfl rfl)
theorem dX4_make_4 : decode cX4_make 4 = .ok (.iload_n 1, 1) := dk_27 (dk_at dksX4_make_0 4 rfl rfl)
theorem dX4_make_5 : decode cX4_make 5 = .ok (.aaload, 1) := dk_50 (dk_at dksX4_make_0 5 rfl rfl)
theorem dX4_make_6 : decode cX4_make 6 = .ok (.iload_n 2, 1) := dk_28 (dk_at dksX4_make_0 6 rfl rfl)
theorem dX4_make_7 : decode cX4_make 7 = .ok (.aaload, 1) := dk_50 (dk_at dksX4_make_0 7 rfl rfl)
theorem dX4_make_8 : decode cX4_make 8 = .ok (.iload_n 3, 1) := dk_29 (dk_at dksX4_make_0 8 rfl rfl)
theorem dX4_make_9 : decode cX4_make 9 = .ok (.bipush 9, 2) := dk_16 9 (dk_at dksX4_make_0 9 rfl rfl)
theorem dX4_make_11 : decode cX4_make 11 = .ok (.newarray .int, 2) := dk_188_10 (dk_at dksX4_make_0 11 rfl rfl)
theorem dX4_make_13 : decode cX4_make 13 = .ok (.dup, 1) := dk_89 (dk_at dksX4_make_0 13 rfl rfl)
theorem dX4_make_14 : decode cX4_make 14 = .ok (.iconst 0, 1) := dk_3 (dk_at dksX4_make_0 14 rfl rfl)
theorem dX4_make_15 : decode cX4_make 15 = .ok (.iload 4, 2) := dk_21 4 (dk_at dksX4_make_0 15 rfl rfl)
theorem dX4_make_17 : decode cX4_make 17 = .ok (.iastore, 1) := dk_79 (dk_at dksX4_make_0 17 rfl rfl)
theorem dX4_make_18 : decode cX4_make 18 = .ok (.dup, 1) := dk_89 (dk_at dksX4_make_0 18 rfl rfl)
theorem dX4_make_19 : decode cX4_make 19 = .ok (.iconst 1, 1) := dk_4 (dk_at dksX4_make_0 19 rfl rfl)
theorem dX4_make_20 : decode cX4_make 20 = .ok (.iload 5, 2) := dk_21 5 (dk_at dksX4_make_0 20 rfl rfl)
theorem dX4_make_22 : decode cX4_make 22 = .ok (.iastore, 1) := dk_79 (dk_at dksX4_make_0 22 rfl rfl)
theorem dX4_make_23 : decode cX4_make 23 = .ok (.dup, 1) := dk_89 (dk_at dksX4_make_0 23 rfl rfl)
theorem dX4_make_24 : decode cX4_make 24 = .ok (.iconst 2, 1) := dk_5 (dk_at dksX4_make_1 0 rfl rfl)
theorem dX4_make_25 : decode cX4_make 25 = .ok (.aload_n 0, 1) := dk_42 (dk_at dksX4_make_1 1 rfl rfl)
theorem dX4_make_26 : decode cX4_make 26 = .ok (.getfield 129, 3) := dk_180 0 129 (dk_at dksX4_make_1 2 rfl rfl)
theorem dX4_make_29 : decode cX4_make 29 = .ok (.iastore, 1) := dk_79 (dk_at dksX4_make_1 5 rfl rfl)
theorem dX4_make_30 : decode cX4_make 30 = .ok (.dup, 1) := dk_89 (dk_at dksX4_make_1 6 rfl rfl)
theorem dX4_make_31 : decode cX4_make 31 = .ok (.iconst 3, 1) := dk_6 (dk_at dksX4_make_1 7 rfl rfl)
theorem dX4_make_32 : decode cX4_make 32 = .ok (.iload 6, 2) := dk_21 6 (dk_at dksX4_make_1 8 rfl rfl)
theorem dX4_make_34 : decode cX4_make 34 = .ok (.iastore, 1) := dk_79 (dk_at dksX4_make_1 10 rfl rfl)
theorem dX4_make_35 : decode cX4_make 35 = .ok (.dup, 1) := dk_89 (dk_at dksX4_make_1 11 rfl rfl)
theorem dX4_make_36 : decode cX4_make 36 = .ok (.iconst 4, 1) := dk_7 (dk_at dksX4_make_1 12 rfl rfl)
theorem dX4_make_37 : decode cX4_make 37 = .ok (.iload 7, 2) := dk_21 7 (dk_at dksX4_make_1 13 rfl rfl)
theorem dX4_make_39 : decode cX4_make 39 = .ok (.iastore, 1) := dk_79 (dk_at dksX4_make_1 15 rfl rfl)
theorem dX4_make_40 : decode cX4_make 40 = .ok (.dup, 1) := dk_89 (dk_at dksX4_make_1 16 rfl rfl)
theorem dX4_make_41 : decode cX4_make 41 = .ok (.iconst 5, 1) := dk_8 (dk_at dksX4_make_1 17 rfl rfl)
theorem dX4_make_42 : decode cX4_make 42 = .ok (.iconst 0, 1) := dk_3 (dk_at dksX4_make_1 18 rfl rfl)
theorem dX4_make_43 : decode cX4_make 43 = .ok (.iastore, 1) := dk_79 (dk_at dksX4_make_1 19 rfl rfl)
theorem dX4_make_44 : decode cX4_make 44 = .ok (.dup, 1) := dk_89 (dk_at dksX4_make_1 20 rfl rfl)
theorem dX4_make_45 : decode cX4_make 45 = .ok (.bipush 6, 2) := dk_16 6 (dk_at dksX4_make_1 21 rfl rfl)
theorem dX4_make_47 : decode cX4_make 47 = .ok (.iload 8, 2) := dk_21 8 (dk_at dksX4_make_2 0 rfl rfl)
theorem dX4_make_49 : decode cX4_make 49 = .ok (.iastore, 1) := dk_79 (dk_at dksX4_make_2 2 rfl rfl)
theorem dX4_make_50 : decode cX4_make 50 = .ok (.dup, 1) := dk_89 (dk_at dksX4_make_2 3 rfl rfl)
theorem dX4_make_51 : decode cX4_make 51 = .ok (.bipush 7, 2) := dk_16 7 (dk_at dksX4_make_2 4 rfl rfl)
theorem dX4_make_53 : decode cX4_make 53 = .ok (.iconst (-1), 1) := dk_2 (dk_at dksX4_make_2 6 rfl rfl)
theorem dX4_make_54 : decode cX4_make 54 = .ok (.iastore, 1) := dk_79 (dk_at dksX4_make_2 7 rfl rfl)
theorem dX4_make_55 : decode cX4_make 55 = .ok (.dup, 1) := dk_89 (dk_at dksX4_make_2 8 rfl rfl)
theorem dX4_make_56 : decode cX4_make 56 = .ok (.bipush 8, 2) := dk_16 8 (dk_at dksX4_make_2 9 rfl rfl)
theorem dX4_make_58 : decode cX4_make 58 = .ok (.iconst 0, 1) := dk_3 (dk_at dksX4_make_2 11 rfl rfl)
theorem dX4_make_59 : decode cX4_make 59 = .ok (.iastore, 1) := dk_79 (dk_at dksX4_make_2 12 rfl rfl)
theorem dX4_make_60 : decode cX4_make 60 = .ok (.aastore, 1) := dk_83 (dk_at dksX4_make_2 13 rfl rfl)
theorem dX4_make_61 : decode cX4_make 61 = .ok (.aload_n 0, 1) := dk_42 (dk_at dksX4_make_2 14 rfl rfl)
theorem dX4_make_62 : decode cX4_make 62 = .ok (.getfield 77, 3) := dk_180 0 77 (dk_at dksX4_make_2 15 rfl rfl)
theorem dX4_make_65 : decode cX4_make 65 = .ok (.iload_n 1, 1) := dk_27 (dk_at dksX4_make_2 18 rfl rfl)
theorem dX4_make_66 : decode cX4_make 66 = .ok (.aaload, 1) := dk_50 (dk_at dksX4_make_2 19 rfl rfl)
theorem dX4_make_67 : decode cX4_make 67 = .ok (.iload_n 2, 1) := dk_28 (dk_at dksX4_make_2 20 rfl rfl)
theorem dX4_make_68 : decode cX4_make 68 = .ok (.aaload, 1) := dk_50 (dk_at dksX4_make_2 21 rfl rfl)
theorem dX4_make_69 : decode cX4_make 69 = .ok (.iload_n 3, 1) := dk_29 (dk_at dksX4_make_2 22 rfl rfl)
theorem dX4_make_70 : decode cX4_make 70 = .ok (.bipush 40, 2) := dk_16 40 (dk_at dksX4_make_3 0 rfl rfl)
theorem dX4_make_72 : decode cX4_make 72 = .ok (.newarray .boolean, 2) := dk_188_4 (dk_at dksX4_make_3 2 rfl rfl)
theorem dX4_make_74 : decode cX4_make 74 = .ok (.aastore, 1) := dk_83 (dk_at dksX4_make_3 4 rfl rfl)
theorem dX4_make_75 : decode cX4_make 75 = .ok (.return_, 1) := dk_177 (dk_at dksX4_make_3 5 rfl rfl)
abbrev cX4_gotReply : ByteArray := prog_8_method_34_code
def yX4_gotReply : MethodName := ⟨RX4, "gotReply", "(I[I)I"⟩
def dkwX4_gotReply_10 : List UInt8 := [172]
abbrev dktX4_gotReply_10 : List UInt8 := dkwX4_gotReply_10 ++ []
def dkwX4_gotReply_9 : List UInt8 := [154, 0, 16, 42, 27, 21, 6, 2, 2, 2, 182, 0, 176, 167, 0, 10, 42, 27, 21, 6, 182, 0, 191, 6]
abbrev dktX4_gotReply_9 : List UInt8 := dkwX4_gotReply_9 ++ dktX4_gotReply_10
def dkwX4_gotReply_8 : List UInt8 := [21, 8, 79, 89, 5, 4, 79, 184, 0, 138, 4, 182, 0, 180, 42, 180, 0, 64, 27, 50, 21, 6, 46]
abbrev dktX4_gotReply_8 : List UInt8 := dkwX4_gotReply_8 ++ dktX4_gotReply_9
def dkwX4_gotReply_7 : List UInt8 := [8, 79, 89, 4, 21, 8, 79, 89, 5, 3, 79, 184, 0, 138, 6, 188, 10, 89, 3, 8, 79, 89, 4]
abbrev dktX4_gotReply_7 : List UInt8 := dkwX4_gotReply_7 ++ dktX4_gotReply_8
def dkwX4_gotReply_6 : List UInt8 := [44, 3, 46, 79, 42, 27, 21, 6, 182, 0, 187, 42, 27, 21, 6, 4, 21, 4, 29, 6, 188, 10, 89, 3]
abbrev dktX4_gotReply_6 : List UInt8 := dkwX4_gotReply_6 ++ dktX4_gotReply_7
def dkwX4_gotReply_5 : List UInt8 := [159, 0, 6, 16, 254, 172, 42, 180, 0, 46, 27, 50, 21, 6, 2, 79, 42, 180, 0, 37, 27, 50, 21, 6]
abbrev dktX4_gotReply_5 : List UInt8 := dkwX4_gotReply_5 ++ dktX4_gotReply_6
def dkwX4_gotReply_4 : List UInt8 := [188, 10, 89, 3, 5, 79, 89, 4, 29, 79, 89, 5, 21, 4, 79, 89, 6, 21, 5, 79, 184, 0, 154]
abbrev dktX4_gotReply_4 : List UInt8 := dkwX4_gotReply_4 ++ dktX4_gotReply_5
def dkwX4_gotReply_3 : List UInt8 := [89, 6, 27, 184, 0, 118, 21, 5, 184, 0, 135, 79, 184, 0, 138, 54, 8, 44, 16, 6, 46, 21, 8, 7]
abbrev dktX4_gotReply_3 : List UInt8 := dkwX4_gotReply_3 ++ dktX4_gotReply_4
def dkwX4_gotReply_2 : List UInt8 := [7, 79, 89, 4, 42, 27, 21, 6, 21, 7, 182, 0, 150, 79, 89, 5, 21, 7, 21, 5, 184, 0, 135, 79]
abbrev dktX4_gotReply_2 : List UInt8 := dkwX4_gotReply_2 ++ dktX4_gotReply_3
def dkwX4_gotReply_1 : List UInt8 := [21, 6, 2, 160, 0, 5, 2, 172, 42, 180, 0, 49, 27, 50, 21, 6, 46, 54, 7, 7, 188, 10, 89, 3]
abbrev dktX4_gotReply_1 : List UInt8 := dkwX4_gotReply_1 ++ dktX4_gotReply_2
def dkwX4_gotReply_0 : List UInt8 := [44, 6, 46, 62, 44, 7, 46, 54, 4, 44, 8, 46, 54, 5, 42, 27, 21, 4, 182, 0, 184, 54, 6]
abbrev dktX4_gotReply_0 : List UInt8 := dkwX4_gotReply_0 ++ dktX4_gotReply_1
theorem dksX4_gotReply_0 : cX4_gotReply.data.toList.drop 0 = dktX4_gotReply_0 := by decide +kernel
theorem dksX4_gotReply_1 : cX4_gotReply.data.toList.drop 23 = dktX4_gotReply_1 := dk_seg dksX4_gotReply_0 23 rfl rfl
theorem dksX4_gotReply_2 : cX4_gotReply.data.toList.drop 47 = dktX4_gotReply_2 := dk_seg dksX4_gotReply_1 24 rfl rfl
theorem dksX4_gotReply_3 : cX4_gotReply.data.toList.drop 71 = dktX4_gotReply_3 := dk_seg dksX4_gotReply_2 24 rfl rfl
theorem dksX4_gotReply_4 : cX4_gotReply.data.toList.drop 95 = dktX4_gotReply_4 := dk_seg dksX4_gotReply_3 24 rfl rfl
theorem dksX4_gotReply_5 : cX4_gotReply.data.toList.drop 118 = dktX4_gotReply_5 := dk_seg dksX4_gotReply_4 23 rfl rfl
theorem dksX4_gotReply_6 : cX4_gotReply.data.toList.drop 142 = dktX4_gotReply_6 := dk_seg dksX4_gotReply_5 24 rfl rfl
theorem dksX4_gotReply_7 : cX4_gotReply.data.toList.drop 166 = dktX4_gotReply_7 := dk_seg dksX4_gotReply_6 24 rfl rfl
theorem dksX4_gotReply_8 : cX4_gotReply.data.toList.drop 189 = dktX4_gotReply_8 := dk_seg dksX4_gotReply_7 23 rfl rfl
theorem dksX4_gotReply_9 : cX4_gotReply.data.toList.drop 212 = dktX4_gotReply_9 := dk_seg dksX4_gotReply_8 23 rfl rfl
theorem dksX4_gotReply_10 : cX4_gotReply.data.toList.drop 236 = dktX4_gotReply_10 := dk_seg dksX4_gotReply_9 24 rfl rfl
theorem dX4_gotReply_0 : decode cX4_gotReply 0 = .ok (.aload_n 2, 1) := dk_44 (dk_at dksX4_gotReply_0 0 rfl rfl)
theorem dX4_gotReply_1 : decode cX4_gotReply 1 = .ok (.iconst 3, 1) := dk_6 (dk_at dksX4_gotReply_0 1 rfl rfl)
theorem dX4_gotReply_2 : decode cX4_gotReply 2 = .ok (.iaload, 1) := dk_46 (dk_at dksX4_gotReply_0 2 rfl rfl)
theorem dX4_gotReply_3 : decode cX4_gotReply 3 = .ok (.istore_n 3, 1) := dk_62 (dk_at dksX4_gotReply_0 3 rfl rfl)
theorem dX4_gotReply_4 : decode cX4_gotReply 4 = .ok (.aload_n 2, 1) := dk_44 (dk_at dksX4_gotReply_0 4 rfl rfl)
theorem dX4_gotReply_5 : decode cX4_gotReply 5 = .ok (.iconst 4, 1) := dk_7 (dk_at dksX4_gotReply_0 5 rfl rfl)
theorem dX4_gotReply_6 : decode cX4_gotReply 6 = .ok (.iaload, 1) := dk_46 (dk_at dksX4_gotReply_0 6 rfl rfl)
theorem dX4_gotReply_7 : decode cX4_gotReply 7 = .ok (.istore 4, 2) := dk_54 4 (dk_at dksX4_gotReply_0 7 rfl rfl)
theorem dX4_gotReply_9 : decode cX4_gotReply 9 = .ok (.aload_n 2, 1) := dk_44 (dk_at dksX4_gotReply_0 9 rfl rfl)
theorem dX4_gotReply_10 : decode cX4_gotReply 10 = .ok (.iconst 5, 1) := dk_8 (dk_at dksX4_gotReply_0 10 rfl rfl)
theorem dX4_gotReply_11 : decode cX4_gotReply 11 = .ok (.iaload, 1) := dk_46 (dk_at dksX4_gotReply_0 11 rfl rfl)
theorem dX4_gotReply_12 : decode cX4_gotReply 12 = .ok (.istore 5, 2) := dk_54 5 (dk_at dksX4_gotReply_0 12 rfl rfl)
theorem dX4_gotReply_14 : decode cX4_gotReply 14 = .ok (.aload_n 0, 1) := dk_42 (dk_at dksX4_gotReply_0 14 rfl rfl)
theorem dX4_gotReply_15 : decode cX4_gotReply 15 = .ok (.iload_n 1, 1) := dk_27 (dk_at dksX4_gotReply_0 15 rfl rfl)
theorem dX4_gotReply_16 : decode cX4_gotReply 16 = .ok (.iload 4, 2) := dk_21 4 (dk_at dksX4_gotReply_0 16 rfl rfl)
theorem dX4_gotReply_18 : decode cX4_gotReply 18 = .ok (.invokevirtual 184, 3) := dk_182 0 184 (dk_at dksX4_gotReply_0 18 rfl rfl)
theorem dX4_gotReply_21 : decode cX4_gotReply 21 = .ok (.istore 6, 2) := dk_54 6 (dk_at dksX4_gotReply_0 21 rfl rfl)
theorem dX4_gotReply_23 : decode cX4_gotReply 23 = .ok (.iload 6, 2) := dk_21 6 (dk_at dksX4_gotReply_1 0 rfl rfl)
theorem dX4_gotReply_25 : decode cX4_gotReply 25 = .ok (.iconst (-1), 1) := dk_2 (dk_at dksX4_gotReply_1 2 rfl rfl)
theorem dX4_gotReply_26 : decode cX4_gotReply 26 = .ok (.if_icmp .ne 5, 3) := dk_160 0 5 (dk_at dksX4_gotReply_1 3 rfl rfl)
theorem dX4_gotReply_29 : decode cX4_gotReply 29 = .ok (.iconst (-1), 1) := dk_2 (dk_at dksX4_gotReply_1 6 rfl rfl)
theorem dX4_gotReply_30 : decode cX4_gotReply 30 = .ok (.ireturn, 1) := dk_172 (dk_at dksX4_gotReply_1 7 rfl rfl)
theorem dX4_gotReply_31 : decode cX4_gotReply 31 = .ok (.aload_n 0, 1) := dk_42 (dk_at dksX4_gotReply_1 8 rfl rfl)
theorem dX4_gotReply_32 : decode cX4_gotReply 32 = .ok (.getfield 49, 3) := dk_180 0 49 (dk_at dksX4_gotReply_1 9 rfl rfl)
theorem dX4_gotReply_35 : decode cX4_gotReply 35 = .ok (.iload_n 1, 1) := dk_27 (dk_at dksX4_gotReply_1 12 rfl rfl)
theorem dX4_gotReply_36 : decode cX4_gotReply 36 = .ok (.aaload, 1) := dk_50 (dk_at dksX4_gotReply_1 13 rfl rfl)
theorem dX4_gotReply_37 : decode cX4_gotReply 37 = .ok (.iload 6, 2) := dk_21 6 (dk_at dksX4_gotReply_1 14 rfl rfl)
theorem dX4_gotReply_39 : decode cX4_gotReply 39 = .ok (.iaload, 1) := dk_46 (dk_at dksX4_gotReply_1 16 rfl rfl)
theorem dX4_gotReply_40 : decode cX4_gotReply 40 = .ok (.istore 7, 2) := dk_54 7 (dk_at dksX4_gotReply_1 17 rfl rfl)
theorem dX4_gotReply_42 : decode cX4_gotReply 42 = .ok (.iconst 4, 1) := dk_7 (dk_at dksX4_gotReply_1 19 rfl rfl)
theorem dX4_gotReply_43 : decode cX4_gotReply 43 = .ok (.newarray .int, 2) := dk_188_10 (dk_at dksX4_gotReply_1 20 rfl rfl)
theorem dX4_gotReply_45 : decode cX4_gotReply 45 = .ok (.dup, 1) := dk_89 (dk_at dksX4_gotReply_1 22 rfl rfl)
theorem dX4_gotReply_46 : decode cX4_gotReply 46 = .ok (.iconst 0, 1) := dk_3 (dk_at dksX4_gotReply_1 23 rfl rfl)
theorem dX4_gotReply_47 : decode cX4_gotReply 47 = .ok (.iconst 4, 1) := dk_7 (dk_at dksX4_gotReply_2 0 rfl rfl)
theorem dX4_gotReply_48 : decode cX4_gotReply 48 = .ok (.iastore, 1) := dk_79 (dk_at dksX4_gotReply_2 1 rfl rfl)
theorem dX4_gotReply_49 : decode cX4_gotReply 49 = .ok (.dup, 1) := dk_89 (dk_at dksX4_gotReply_2 2 rfl rfl)
theorem dX4_gotReply_50 : decode cX4_gotReply 50 = .ok (.iconst 1, 1) := dk_4 (dk_at dksX4_gotReply_2 3 rfl rfl)
theorem dX4_gotReply_51 : decode cX4_gotReply 51 = .ok (.aload_n 0, 1) := dk_42 (dk_at dksX4_gotReply_2 4 rfl rfl)
theorem dX4_gotReply_52 : decode cX4_gotReply 52 = .ok (.iload_n 1, 1) := dk_27 (dk_at dksX4_gotReply_2 5 rfl rfl)
theorem dX4_gotReply_53 : decode cX4_gotReply 53 = .ok (.iload 6, 2) := dk_21 6 (dk_at dksX4_gotReply_2 6 rfl rfl)
theorem dX4_gotReply_55 : decode cX4_gotReply 55 = .ok (.iload 7, 2) := dk_21 7 (dk_at dksX4_gotReply_2 8 rfl rfl)
theorem dX4_gotReply_57 : decode cX4_gotReply 57 = .ok (.invokevirtual 150, 3) := dk_182 0 150 (dk_at dksX4_gotReply_2 10 rfl rfl)
theorem dX4_gotReply_60 : decode cX4_gotReply 60 = .ok (.iastore, 1) := dk_79 (dk_at dksX4_gotReply_2 13 rfl rfl)
theorem dX4_gotReply_61 : decode cX4_gotReply 61 = .ok (.dup, 1) := dk_89 (dk_at dksX4_gotReply_2 14 rfl rfl)
theorem dX4_gotReply_62 : decode cX4_gotReply 62 = .ok (.iconst 2, 1) := dk_5 (dk_at dksX4_gotReply_2 15 rfl rfl)
theorem dX4_gotReply_63 : decode cX4_gotReply 63 = .ok (.iload 7, 2) := dk_21 7 (dk_at dksX4_gotReply_2 16 rfl rfl)
theorem dX4_gotReply_65 : decode cX4_gotReply 65 = .ok (.iload 5, 2) := dk_21 5 (dk_at dksX4_gotReply_2 18 rfl rfl)
theorem dX4_gotReply_67 : decode cX4_gotReply 67 = .ok (.invokestatic 135, 3) := dk_184 0 135 (dk_at dksX4_gotReply_2 20 rfl rfl)
theorem dX4_gotReply_70 : decode cX4_gotReply 70 = .ok (.iastore, 1) := dk_79 (dk_at dksX4_gotReply_2 23 rfl rfl)
theorem dX4_gotReply_71 : decode cX4_gotReply 71 = .ok (.dup, 1) := dk_89 (dk_at dksX4_gotReply_3 0 rfl rfl)
theorem dX4_gotReply_72 : decode cX4_gotReply 72 = .ok (.iconst 3, 1) := dk_6 (dk_at dksX4_gotReply_3 1 rfl rfl)
theorem dX4_gotReply_73 : decode cX4_gotReply 73 = .ok (.iload_n 1, 1) := dk_27 (dk_at dksX4_gotReply_3 2 rfl rfl)
theorem dX4_gotReply_74 : decode cX4_gotReply 74 = .ok (.invokestatic 118, 3) := dk_184 0 118 (dk_at dksX4_gotReply_3 3 rfl rfl)
theorem dX4_gotReply_77 : decode cX4_gotReply 77 = .ok (.iload 5, 2) := dk_21 5 (dk_at dksX4_gotReply_3 6 rfl rfl)
theorem dX4_gotReply_79 : decode cX4_gotReply 79 = .ok (.invokestatic 135, 3) := dk_184 0 135 (dk_at dksX4_gotReply_3 8 rfl rfl)
theorem dX4_gotReply_82 : decode cX4_gotReply 82 = .ok (.iastore, 1) := dk_79 (dk_at dksX4_gotReply_3 11 rfl rfl)
theorem dX4_gotReply_83 : decode cX4_gotReply 83 = .ok (.invokestatic 138, 3) := dk_184 0 138 (dk_at dksX4_gotReply_3 12 rfl rfl)
theorem dX4_gotReply_86 : decode cX4_gotReply 86 = .ok (.istore 8, 2) := dk_54 8 (dk_at dksX4_gotReply_3 15 rfl rfl)
theorem dX4_gotReply_88 : decode cX4_gotReply 88 = .ok (.aload_n 2, 1) := dk_44 (dk_at dksX4_gotReply_3 17 rfl rfl)
theorem dX4_gotReply_89 : decode cX4_gotReply 89 = .ok (.bipush 6, 2) := dk_16 6 (dk_at dksX4_gotReply_3 18 rfl rfl)
theorem dX4_gotReply_91 : decode cX4_gotReply 91 = .ok (.iaload, 1) := dk_46 (dk_at dksX4_gotReply_3 20 rfl rfl)
theorem dX4_gotReply_92 : decode cX4_gotReply 92 = .ok (.iload 8, 2) := dk_21 8 (dk_at dksX4_gotReply_3 21 rfl rfl)
theorem dX4_gotReply_94 : decode cX4_gotReply 94 = .ok (.iconst 4, 1) := dk_7 (dk_at dksX4_gotReply_3 23 rfl rfl)
theorem dX4_gotReply_95 : decode cX4_gotReply 95 = .ok (.newarray .int, 2) := dk_188_10 (dk_at dksX4_gotReply_4 0 rfl rfl)
theorem dX4_gotReply_97 : decode cX4_gotReply 97 = .ok (.dup, 1) := dk_89 (dk_at dksX4_gotReply_4 2 rfl rfl)
theorem dX4_gotReply_98 : decode cX4_gotReply 98 = .ok (.iconst 0, 1) := dk_3 (dk_at dksX4_gotReply_4 3 rfl rfl)
theorem dX4_gotReply_99 : decode cX4_gotReply 99 = .ok (.iconst 2, 1) := dk_5 (dk_at dksX4_gotReply_4 4 rfl rfl)
theorem dX4_gotReply_100 : decode cX4_gotReply 100 = .ok (.iastore, 1) := dk_79 (dk_at dksX4_gotReply_4 5 rfl rfl)
theorem dX4_gotReply_101 : decode cX4_gotReply 101 = .ok (.dup, 1) := dk_89 (dk_at dksX4_gotReply_4 6 rfl rfl)
theorem dX4_gotReply_102 : decode cX4_gotReply 102 = .ok (.iconst 1, 1) := dk_4 (dk_at dksX4_gotReply_4 7 rfl rfl)
theorem dX4_gotReply_103 : decode cX4_gotReply 103 = .ok (.iload_n 3, 1) := dk_29 (dk_at dksX4_gotReply_4 8 rfl rfl)
theorem dX4_gotReply_104 : decode cX4_gotReply 104 = .ok (.iastore, 1) := dk_79 (dk_at dksX4_gotReply_4 9 rfl rfl)
theorem dX4_gotReply_105 : decode cX4_gotReply 105 = .ok (.dup, 1) := dk_89 (dk_at dksX4_gotReply_4 10 rfl rfl)
theorem dX4_gotReply_106 : decode cX4_gotReply 106 = .ok (.iconst 2, 1) := dk_5 (dk_at dksX4_gotReply_4 11 rfl rfl)
theorem dX4_gotReply_107 : decode cX4_gotReply 107 = .ok (.iload 4, 2) := dk_21 4 (dk_at dksX4_gotReply_4 12 rfl rfl)
theorem dX4_gotReply_109 : decode cX4_gotReply 109 = .ok (.iastore, 1) := dk_79 (dk_at dksX4_gotReply_4 14 rfl rfl)
theorem dX4_gotReply_110 : decode cX4_gotReply 110 = .ok (.dup, 1) := dk_89 (dk_at dksX4_gotReply_4 15 rfl rfl)
theorem dX4_gotReply_111 : decode cX4_gotReply 111 = .ok (.iconst 3, 1) := dk_6 (dk_at dksX4_gotReply_4 16 rfl rfl)
theorem dX4_gotReply_112 : decode cX4_gotReply 112 = .ok (.iload 5, 2) := dk_21 5 (dk_at dksX4_gotReply_4 17 rfl rfl)
theorem dX4_gotReply_114 : decode cX4_gotReply 114 = .ok (.iastore, 1) := dk_79 (dk_at dksX4_gotReply_4 19 rfl rfl)
theorem dX4_gotReply_115 : decode cX4_gotReply 115 = .ok (.invokestatic 154, 3) := dk_184 0 154 (dk_at dksX4_gotReply_4 20 rfl rfl)
theorem dX4_gotReply_118 : decode cX4_gotReply 118 = .ok (.if_icmp .eq 6, 3) := dk_159 0 6 (dk_at dksX4_gotReply_5 0 rfl rfl)
theorem dX4_gotReply_121 : decode cX4_gotReply 121 = .ok (.bipush (-2), 2) := dk_16 254 (dk_at dksX4_gotReply_5 3 rfl rfl)
theorem dX4_gotReply_123 : decode cX4_gotReply 123 = .ok (.ireturn, 1) := dk_172 (dk_at dksX4_gotReply_5 5 rfl rfl)
theorem dX4_gotReply_124 : decode cX4_gotReply 124 = .ok (.aload_n 0, 1) := dk_42 (dk_at dksX4_gotReply_5 6 rfl rfl)
theorem dX4_gotReply_125 : decode cX4_gotReply 125 = .ok (.getfield 46, 3) := dk_180 0 46 (dk_at dksX4_gotReply_5 7 rfl rfl)
theorem dX4_gotReply_128 : decode cX4_gotReply 128 = .ok (.iload_n 1, 1) := dk_27 (dk_at dksX4_gotReply_5 10 rfl rfl)
theorem dX4_gotReply_129 : decode cX4_gotReply 129 = .ok (.aaload, 1) := dk_50 (dk_at dksX4_gotReply_5 11 rfl rfl)
theorem dX4_gotReply_130 : decode cX4_gotReply 130 = .ok (.iload 6, 2) := dk_21 6 (dk_at dksX4_gotReply_5 12 rfl rfl)
theorem dX4_gotReply_132 : decode cX4_gotReply 132 = .ok (.iconst (-1), 1) := dk_2 (dk_at dksX4_gotReply_5 14 rfl rfl)
theorem dX4_gotReply_133 : decode cX4_gotReply 133 = .ok (.iastore, 1) := dk_79 (dk_at dksX4_gotReply_5 15 rfl rfl)
theorem dX4_gotReply_134 : decode cX4_gotReply 134 = .ok (.aload_n 0, 1) := dk_42 (dk_at dksX4_gotReply_5 16 rfl rfl)
theorem dX4_gotReply_135 : decode cX4_gotReply 135 = .ok (.getfield 37, 3) := dk_180 0 37 (dk_at dksX4_gotReply_5 17 rfl rfl)
theorem dX4_gotReply_138 : decode cX4_gotReply 138 = .ok (.iload_n 1, 1) := dk_27 (dk_at dksX4_gotReply_5 20 rfl rfl)
theorem dX4_gotReply_139 : decode cX4_gotReply 139 = .ok (.aaload, 1) := dk_50 (dk_at dksX4_gotReply_5 21 rfl rfl)
theorem dX4_gotReply_140 : decode cX4_gotReply 140 = .ok (.iload 6, 2) := dk_21 6 (dk_at dksX4_gotReply_5 22 rfl rfl)
theorem dX4_gotReply_142 : decode cX4_gotReply 142 = .ok (.aload_n 2, 1) := dk_44 (dk_at dksX4_gotReply_6 0 rfl rfl)
theorem dX4_gotReply_143 : decode cX4_gotReply 143 = .ok (.iconst 0, 1) := dk_3 (dk_at dksX4_gotReply_6 1 rfl rfl)
theorem dX4_gotReply_144 : decode cX4_gotReply 144 = .ok (.iaload, 1) := dk_46 (dk_at dksX4_gotReply_6 2 rfl rfl)
theorem dX4_gotReply_145 : decode cX4_gotReply 145 = .ok (.iastore, 1) := dk_79 (dk_at dksX4_gotReply_6 3 rfl rfl)
theorem dX4_gotReply_146 : decode cX4_gotReply 146 = .ok (.aload_n 0, 1) := dk_42 (dk_at dksX4_gotReply_6 4 rfl rfl)
theorem dX4_gotReply_147 : decode cX4_gotReply 147 = .ok (.iload_n 1, 1) := dk_27 (dk_at dksX4_gotReply_6 5 rfl rfl)
theorem dX4_gotReply_148 : decode cX4_gotReply 148 = .ok (.iload 6, 2) := dk_21 6 (dk_at dksX4_gotReply_6 6 rfl rfl)
theorem dX4_gotReply_150 : decode cX4_gotReply 150 = .ok (.invokevirtual 187, 3) := dk_182 0 187 (dk_at dksX4_gotReply_6 8 rfl rfl)
theorem dX4_gotReply_153 : decode cX4_gotReply 153 = .ok (.aload_n 0, 1) := dk_42 (dk_at dksX4_gotReply_6 11 rfl rfl)
theorem dX4_gotReply_154 : decode cX4_gotReply 154 = .ok (.iload_n 1, 1) := dk_27 (dk_at dksX4_gotReply_6 12 rfl rfl)
theorem dX4_gotReply_155 : decode cX4_gotReply 155 = .ok (.iload 6, 2) := dk_21 6 (dk_at dksX4_gotReply_6 13 rfl rfl)
theorem dX4_gotReply_157 : decode cX4_gotReply 157 = .ok (.iconst 1, 1) := dk_4 (dk_at dksX4_gotReply_6 15 rfl rfl)
theorem dX4_gotReply_158 : decode cX4_gotReply 158 = .ok (.iload 4, 2) := dk_21 4 (dk_at dksX4_gotReply_6 16 rfl rfl)
theorem dX4_gotReply_160 : decode cX4_gotReply 160 = .ok (.iload_n 3, 1) := dk_29 (dk_at dksX4_gotReply_6 18 rfl rfl)
theorem dX4_gotReply_161 : decode cX4_gotReply 161 = .ok (.iconst 3, 1) := dk_6 (dk_at dksX4_gotReply_6 19 rfl rfl)
theorem dX4_gotReply_162 : decode cX4_gotReply 162 = .ok (.newarray .int, 2) := dk_188_10 (dk_at dksX4_gotReply_6 20 rfl rfl)
theorem dX4_gotReply_164 : decode cX4_gotReply 164 = .ok (.dup, 1) := dk_89 (dk_at dksX4_gotReply_6 22 rfl rfl)
theorem dX4_gotReply_165 : decode cX4_gotReply 165 = .ok (.iconst 0, 1) := dk_3 (dk_at dksX4_gotReply_6 23 rfl rfl)
theorem dX4_gotReply_166 : decode cX4_gotReply 166 = .ok (.iconst 5, 1) := dk_8 (dk_at dksX4_gotReply_7 0 rfl rfl)
theorem dX4_gotReply_167 : decode cX4_gotReply 167 = .ok (.iastore, 1) := dk_79 (dk_at dksX4_gotReply_7 1 rfl rfl)
theorem dX4_gotReply_168 : decode cX4_gotReply 168 = .ok (.dup, 1) := dk_89 (dk_at dksX4_gotReply_7 2 rfl rfl)
theorem dX4_gotReply_169 : decode cX4_gotReply 169 = .ok (.iconst 1, 1) := dk_4 (dk_at dksX4_gotReply_7 3 rfl rfl)
theorem dX4_gotReply_170 : decode cX4_gotReply 170 = .ok (.iload 8, 2) := dk_21 8 (dk_at dksX4_gotReply_7 4 rfl rfl)
theorem dX4_gotReply_172 : decode cX4_gotReply 172 = .ok (.iastore, 1) := dk_79 (dk_at dksX4_gotReply_7 6 rfl rfl)
theorem dX4_gotReply_173 : decode cX4_gotReply 173 = .ok (.dup, 1) := dk_89 (dk_at dksX4_gotReply_7 7 rfl rfl)
theorem dX4_gotReply_174 : decode cX4_gotReply 174 = .ok (.iconst 2, 1) := dk_5 (dk_at dksX4_gotReply_7 8 rfl rfl)
theorem dX4_gotReply_175 : decode cX4_gotReply 175 = .ok (.iconst 0, 1) := dk_3 (dk_at dksX4_gotReply_7 9 rfl rfl)
theorem dX4_gotReply_176 : decode cX4_gotReply 176 = .ok (.iastore, 1) := dk_79 (dk_at dksX4_gotReply_7 10 rfl rfl)
theorem dX4_gotReply_177 : decode cX4_gotReply 177 = .ok (.invokestatic 138, 3) := dk_184 0 138 (dk_at dksX4_gotReply_7 11 rfl rfl)
theorem dX4_gotReply_180 : decode cX4_gotReply 180 = .ok (.iconst 3, 1) := dk_6 (dk_at dksX4_gotReply_7 14 rfl rfl)
theorem dX4_gotReply_181 : decode cX4_gotReply 181 = .ok (.newarray .int, 2) := dk_188_10 (dk_at dksX4_gotReply_7 15 rfl rfl)
theorem dX4_gotReply_183 : decode cX4_gotReply 183 = .ok (.dup, 1) := dk_89 (dk_at dksX4_gotReply_7 17 rfl rfl)
theorem dX4_gotReply_184 : decode cX4_gotReply 184 = .ok (.iconst 0, 1) := dk_3 (dk_at dksX4_gotReply_7 18 rfl rfl)
theorem dX4_gotReply_185 : decode cX4_gotReply 185 = .ok (.iconst 5, 1) := dk_8 (dk_at dksX4_gotReply_7 19 rfl rfl)
theorem dX4_gotReply_186 : decode cX4_gotReply 186 = .ok (.iastore, 1) := dk_79 (dk_at dksX4_gotReply_7 20 rfl rfl)
theorem dX4_gotReply_187 : decode cX4_gotReply 187 = .ok (.dup, 1) := dk_89 (dk_at dksX4_gotReply_7 21 rfl rfl)
theorem dX4_gotReply_188 : decode cX4_gotReply 188 = .ok (.iconst 1, 1) := dk_4 (dk_at dksX4_gotReply_7 22 rfl rfl)
theorem dX4_gotReply_189 : decode cX4_gotReply 189 = .ok (.iload 8, 2) := dk_21 8 (dk_at dksX4_gotReply_8 0 rfl rfl)
theorem dX4_gotReply_191 : decode cX4_gotReply 191 = .ok (.iastore, 1) := dk_79 (dk_at dksX4_gotReply_8 2 rfl rfl)
theorem dX4_gotReply_192 : decode cX4_gotReply 192 = .ok (.dup, 1) := dk_89 (dk_at dksX4_gotReply_8 3 rfl rfl)
theorem dX4_gotReply_193 : decode cX4_gotReply 193 = .ok (.iconst 2, 1) := dk_5 (dk_at dksX4_gotReply_8 4 rfl rfl)
theorem dX4_gotReply_194 : decode cX4_gotReply 194 = .ok (.iconst 1, 1) := dk_4 (dk_at dksX4_gotReply_8 5 rfl rfl)
theorem dX4_gotReply_195 : decode cX4_gotReply 195 = .ok (.iastore, 1) := dk_79 (dk_at dksX4_gotReply_8 6 rfl rfl)
theorem dX4_gotReply_196 : decode cX4_gotReply 196 = .ok (.invokestatic 138, 3) := dk_184 0 138 (dk_at dksX4_gotReply_8 7 rfl rfl)
theorem dX4_gotReply_199 : decode cX4_gotReply 199 = .ok (.iconst 1, 1) := dk_4 (dk_at dksX4_gotReply_8 10 rfl rfl)
theorem dX4_gotReply_200 : decode cX4_gotReply 200 = .ok (.invokevirtual 180, 3) := dk_182 0 180 (dk_at dksX4_gotReply_8 11 rfl rfl)
theorem dX4_gotReply_203 : decode cX4_gotReply 203 = .ok (.aload_n 0, 1) := dk_42 (dk_at dksX4_gotReply_8 14 rfl rfl)
theorem dX4_gotReply_204 : decode cX4_gotReply 204 = .ok (.getfield 64, 3) := dk_180 0 64 (dk_at dksX4_gotReply_8 15 rfl rfl)
theorem dX4_gotReply_207 : decode cX4_gotReply 207 = .ok (.iload_n 1, 1) := dk_27 (dk_at dksX4_gotReply_8 18 rfl rfl)
theorem dX4_gotReply_208 : decode cX4_gotReply 208 = .ok (.aaload, 1) := dk_50 (dk_at dksX4_gotReply_8 19 rfl rfl)
theorem dX4_gotReply_209 : decode cX4_gotReply 209 = .ok (.iload 6, 2) := dk_21 6 (dk_at dksX4_gotReply_8 20 rfl rfl)
theorem dX4_gotReply_211 : decode cX4_gotReply 211 = .ok (.iaload, 1) := dk_46 (dk_at dksX4_gotReply_8 22 rfl rfl)
theorem dX4_gotReply_212 : decode cX4_gotReply 212 = .ok (.ifCond .ne 16, 3) := dk_154 0 16 (dk_at dksX4_gotReply_9 0 rfl rfl)
theorem dX4_gotReply_215 : decode cX4_gotReply 215 = .ok (.aload_n 0, 1) := dk_42 (dk_at dksX4_gotReply_9 3 rfl rfl)
theorem dX4_gotReply_216 : decode cX4_gotReply 216 = .ok (.iload_n 1, 1) := dk_27 (dk_at dksX4_gotReply_9 4 rfl rfl)
theorem dX4_gotReply_217 : decode cX4_gotReply 217 = .ok (.iload 6, 2) := dk_21 6 (dk_at dksX4_gotReply_9 5 rfl rfl)
theorem dX4_gotReply_219 : decode cX4_gotReply 219 = .ok (.iconst (-1), 1) := dk_2 (dk_at dksX4_gotReply_9 7 rfl rfl)
theorem dX4_gotReply_220 : decode cX4_gotReply 220 = .ok (.iconst (-1), 1) := dk_2 (dk_at dksX4_gotReply_9 8 rfl rfl)
theorem dX4_gotReply_221 : decode cX4_gotReply 221 = .ok (.iconst (-1), 1) := dk_2 (dk_at dksX4_gotReply_9 9 rfl rfl)
theorem dX4_gotReply_222 : decode cX4_gotReply 222 = .ok (.invokevirtual 176, 3) := dk_182 0 176 (dk_at dksX4_gotReply_9 10 rfl rfl)
theorem dX4_gotReply_225 : decode cX4_gotReply 225 = .ok (.goto 10, 3) := dk_167 0 10 (dk_at dksX4_gotReply_9 13 rfl rfl)
theorem dX4_gotReply_228 : decode cX4_gotReply 228 = .ok (.aload_n 0, 1) := dk_42 (dk_at dksX4_gotReply_9 16 rfl rfl)
theorem dX4_gotReply_229 : decode cX4_gotReply 229 = .ok (.iload_n 1, 1) := dk_27 (dk_at dksX4_gotReply_9 17 rfl rfl)
theorem dX4_gotReply_230 : decode cX4_gotReply 230 = .ok (.iload 6, 2) := dk_21 6 (dk_at dksX4_gotReply_9 18 rfl rfl)
theorem dX4_gotReply_232 : decode cX4_gotReply 232 = .ok (.invokevirtual 191, 3) := dk_182 0 191 (dk_at dksX4_gotReply_9 20 rfl rfl)
theorem dX4_gotReply_235 : decode cX4_gotReply 235 = .ok (.iconst 3, 1) := dk_6 (dk_at dksX4_gotReply_9 23 rfl rfl)
theorem dX4_gotReply_236 : decode cX4_gotReply 236 = .ok (.ireturn, 1) := dk_172 (dk_at dksX4_gotReply_10 0 rfl rfl)
abbrev cX4_inFlight : ByteArray := prog_8_method_33_code
def yX4_inFlight : MethodName := ⟨RX4, "inFlight", "(II)I"⟩
def dkwX4_inFlight_1 : List UInt8 := [29, 172, 132, 3, 1, 167, 255, 229, 2, 172]
abbrev dktX4_inFlight_1 : List UInt8 := dkwX4_inFlight_1 ++ []
def dkwX4_inFlight_0 : List UInt8 := [3, 62, 29, 6, 162, 0, 28, 29, 27, 159, 0, 17, 42, 180, 0, 46, 27, 50, 29, 46, 28, 160, 0, 5]
abbrev dktX4_inFlight_0 : List UInt8 := dkwX4_inFlight_0 ++ dktX4_inFlight_1
theorem dksX4_inFlight_0 : cX4_inFlight.data.toList.drop 0 = dktX4_inFlight_0 := by decide +kernel
theorem dksX4_inFlight_1 : cX4_inFlight.data.toList.drop 24 = dktX4_inFlight_1 := dk_seg dksX4_inFlight_0 24 rfl rfl
theorem dX4_inFlight_0 : decode cX4_inFlight 0 = .ok (.iconst 0, 1) := dk_3 (dk_at dksX4_inFlight_0 0 rfl rfl)
theorem dX4_inFlight_1 : decode cX4_inFlight 1 = .ok (.istore_n 3, 1) := dk_62 (dk_at dksX4_inFlight_0 1 rfl rfl)
theorem dX4_inFlight_2 : decode cX4_inFlight 2 = .ok (.iload_n 3, 1) := dk_29 (dk_at dksX4_inFlight_0 2 rfl rfl)
theorem dX4_inFlight_3 : decode cX4_inFlight 3 = .ok (.iconst 3, 1) := dk_6 (dk_at dksX4_inFlight_0 3 rfl rfl)
theorem dX4_inFlight_4 : decode cX4_inFlight 4 = .ok (.if_icmp .ge 28, 3) := dk_162 0 28 (dk_at dksX4_inFlight_0 4 rfl rfl)
theorem dX4_inFlight_7 : decode cX4_inFlight 7 = .ok (.iload_n 3, 1) := dk_29 (dk_at dksX4_inFlight_0 7 rfl rfl)
theorem dX4_inFlight_8 : decode cX4_inFlight 8 = .ok (.iload_n 1, 1) := dk_27 (dk_at dksX4_inFlight_0 8 rfl rfl)
theorem dX4_inFlight_9 : decode cX4_inFlight 9 = .ok (.if_icmp .eq 17, 3) := dk_159 0 17 (dk_at dksX4_inFlight_0 9 rfl rfl)
theorem dX4_inFlight_12 : decode cX4_inFlight 12 = .ok (.aload_n 0, 1) := dk_42 (dk_at dksX4_inFlight_0 12 rfl rfl)
theorem dX4_inFlight_13 : decode cX4_inFlight 13 = .ok (.getfield 46, 3) := dk_180 0 46 (dk_at dksX4_inFlight_0 13 rfl rfl)
theorem dX4_inFlight_16 : decode cX4_inFlight 16 = .ok (.iload_n 1, 1) := dk_27 (dk_at dksX4_inFlight_0 16 rfl rfl)
theorem dX4_inFlight_17 : decode cX4_inFlight 17 = .ok (.aaload, 1) := dk_50 (dk_at dksX4_inFlight_0 17 rfl rfl)
theorem dX4_inFlight_18 : decode cX4_inFlight 18 = .ok (.iload_n 3, 1) := dk_29 (dk_at dksX4_inFlight_0 18 rfl rfl)
theorem dX4_inFlight_19 : decode cX4_inFlight 19 = .ok (.iaload, 1) := dk_46 (dk_at dksX4_inFlight_0 19 rfl rfl)
theorem dX4_inFlight_20 : decode cX4_inFlight 20 = .ok (.iload_n 2, 1) := dk_28 (dk_at dksX4_inFlight_0 20 rfl rfl)
theorem dX4_inFlight_21 : decode cX4_inFlight 21 = .ok (.if_icmp .ne 5, 3) := dk_160 0 5 (dk_at dksX4_inFlight_0 21 rfl rfl)
theorem dX4_inFlight_24 : decode cX4_inFlight 24 = .ok (.iload_n 3, 1) := dk_29 (dk_at dksX4_inFlight_1 0 rfl rfl)
theorem dX4_inFlight_25 : decode cX4_inFlight 25 = .ok (.ireturn, 1) := dk_172 (dk_at dksX4_inFlight_1 1 rfl rfl)
theorem dX4_inFlight_26 : decode cX4_inFlight 26 = .ok (.iinc 3 1, 3) := dk_132 3 1 (dk_at dksX4_inFlight_1 2 rfl rfl)
theorem dX4_inFlight_29 : decode cX4_inFlight 29 = .ok (.goto (-27), 3) := dk_167 255 229 (dk_at dksX4_inFlight_1 5 rfl rfl)
theorem dX4_inFlight_32 : decode cX4_inFlight 32 = .ok (.iconst (-1), 1) := dk_2 (dk_at dksX4_inFlight_1 8 rfl rfl)
theorem dX4_inFlight_33 : decode cX4_inFlight 33 = .ok (.ireturn, 1) := dk_172 (dk_at dksX4_inFlight_1 9 rfl rfl)
abbrev cX4_turnOver : ByteArray := prog_8_method_28_code
def yX4_turnOver : MethodName := ⟨RX4, "turnOver", "(II)V"⟩
def dkwX4_turnOver_1 : List UInt8 := [27, 50, 28, 50, 3, 42, 180, 0, 77, 27, 50, 28, 50, 4, 50, 83, 177]
abbrev dktX4_turnOver_1 : List UInt8 := dkwX4_turnOver_1 ++ []
def dkwX4_turnOver_0 : List UInt8 := [42, 180, 0, 72, 27, 50, 28, 50, 3, 42, 180, 0, 72, 27, 50, 28, 50, 4, 50, 83, 42, 180, 0, 77]
abbrev dktX4_turnOver_0 : List UInt8 := dkwX4_turnOver_0 ++ dktX4_turnOver_1
theorem dksX4_turnOver_0 : cX4_turnOver.data.toList.drop 0 = dktX4_turnOver_0 := by decide +kernel
theorem dksX4_turnOver_1 : cX4_turnOver.data.toList.drop 24 = dktX4_turnOver_1 := dk_seg dksX4_turnOver_0 24 rfl rfl
theorem dX4_turnOver_0 : decode cX4_turnOver 0 = .ok (.aload_n 0, 1) := dk_42 (dk_at dksX4_turnOver_0 0 rfl rfl)
theorem dX4_turnOver_1 : decode cX4_turnOver 1 = .ok (.getfield 72, 3) := dk_180 0 72 (dk_at dksX4_turnOver_0 1 rfl rfl)
theorem dX4_turnOver_4 : decode cX4_turnOver 4 = .ok (.iload_n 1, 1) := dk_27 (dk_at dksX4_turnOver_0 4 rfl rfl)
theorem dX4_turnOver_5 : decode cX4_turnOver 5 = .ok (.aaload, 1) := dk_50 (dk_at dksX4_turnOver_0 5 rfl rfl)
theorem dX4_turnOver_6 : decode cX4_turnOver 6 = .ok (.iload_n 2, 1) := dk_28 (dk_at dksX4_turnOver_0 6 rfl rfl)
theorem dX4_turnOver_7 : decode cX4_turnOver 7 = .ok (.aaload, 1) := dk_50 (dk_at dksX4_turnOver_0 7 rfl rfl)
theorem dX4_turnOver_8 : decode cX4_turnOver 8 = .ok (.iconst 0, 1) := dk_3 (dk_at dksX4_turnOver_0 8 rfl rfl)
theorem dX4_turnOver_9 : decode cX4_turnOver 9 = .ok (.aload_n 0, 1) := dk_42 (dk_at dksX4_turnOver_0 9 rfl rfl)
theorem dX4_turnOver_10 : decode cX4_turnOver 10 = .ok (.getfield 72, 3) := dk_180 0 72 (dk_at dksX4_turnOver_0 10 rfl rfl)
theorem dX4_turnOver_13 : decode cX4_turnOver 13 = .ok (.iload_n 1, 1) := dk_27 (dk_at dksX4_turnOver_0 13 rfl rfl)
theorem dX4_turnOver_14 : decode cX4_turnOver 14 = .ok (.aaload, 1) := dk_50 (dk_at dksX4_turnOver_0 14 rfl rfl)
theorem dX4_turnOver_15 : decode cX4_turnOver 15 = .ok (.iload_n 2, 1) := dk_28 (dk_at dksX4_turnOver_0 15 rfl rfl)
theorem dX4_turnOver_16 : decode cX4_turnOver 16 = .ok (.aaload, 1) := dk_50 (dk_at dksX4_turnOver_0 16 rfl rfl)
theorem dX4_turnOver_17 : decode cX4_turnOver 17 = .ok (.iconst 1, 1) := dk_4 (dk_at dksX4_turnOver_0 17 rfl rfl)
theorem dX4_turnOver_18 : decode cX4_turnOver 18 = .ok (.aaload, 1) := dk_50 (dk_at dksX4_turnOver_0 18 rfl rfl)
theorem dX4_turnOver_19 : decode cX4_turnOver 19 = .ok (.aastore, 1) := dk_83 (dk_at dksX4_turnOver_0 19 rfl rfl)
theorem dX4_turnOver_20 : decode cX4_turnOver 20 = .ok (.aload_n 0, 1) := dk_42 (dk_at dksX4_turnOver_0 20 rfl rfl)
theorem dX4_turnOver_21 : decode cX4_turnOver 21 = .ok (.getfield 77, 3) := dk_180 0 77 (dk_at dksX4_turnOver_0 21 rfl rfl)
theorem dX4_turnOver_24 : decode cX4_turnOver 24 = .ok (.iload_n 1, 1) := dk_27 (dk_at dksX4_turnOver_1 0 rfl rfl)
theorem dX4_turnOver_25 : decode cX4_turnOver 25 = .ok (.aaload, 1) := dk_50 (dk_at dksX4_turnOver_1 1 rfl rfl)
theorem dX4_turnOver_26 : decode cX4_turnOver 26 = .ok (.iload_n 2, 1) := dk_28 (dk_at dksX4_turnOver_1 2 rfl rfl)
theorem dX4_turnOver_27 : decode cX4_turnOver 27 = .ok (.aaload, 1) := dk_50 (dk_at dksX4_turnOver_1 3 rfl rfl)
theorem dX4_turnOver_28 : decode cX4_turnOver 28 = .ok (.iconst 0, 1) := dk_3 (dk_at dksX4_turnOver_1 4 rfl rfl)
theorem dX4_turnOver_29 : decode cX4_turnOver 29 = .ok (.aload_n 0, 1) := dk_42 (dk_at dksX4_turnOver_1 5 rfl rfl)
theorem dX4_turnOver_30 : decode cX4_turnOver 30 = .ok (.getfield 77, 3) := dk_180 0 77 (dk_at dksX4_turnOver_1 6 rfl rfl)
theorem dX4_turnOver_33 : decode cX4_turnOver 33 = .ok (.iload_n 1, 1) := dk_27 (dk_at dksX4_turnOver_1 9 rfl rfl)
theorem dX4_turnOver_34 : decode cX4_turnOver 34 = .ok (.aaload, 1) := dk_50 (dk_at dksX4_turnOver_1 10 rfl rfl)
theorem dX4_turnOver_35 : decode cX4_turnOver 35 = .ok (.iload_n 2, 1) := dk_28 (dk_at dksX4_turnOver_1 11 rfl rfl)
theorem dX4_turnOver_36 : decode cX4_turnOver 36 = .ok (.aaload, 1) := dk_50 (dk_at dksX4_turnOver_1 12 rfl rfl)
theorem dX4_turnOver_37 : decode cX4_turnOver 37 = .ok (.iconst 1, 1) := dk_4 (dk_at dksX4_turnOver_1 13 rfl rfl)
theorem dX4_turnOver_38 : decode cX4_turnOver 38 = .ok (.aaload, 1) := dk_50 (dk_at dksX4_turnOver_1 14 rfl rfl)
theorem dX4_turnOver_39 : decode cX4_turnOver 39 = .ok (.aastore, 1) := dk_83 (dk_at dksX4_turnOver_1 15 rfl rfl)
theorem dX4_turnOver_40 : decode cX4_turnOver 40 = .ok (.return_, 1) := dk_177 (dk_at dksX4_turnOver_1 16 rfl rfl)
abbrev cX4_sendWaiting : ByteArray := prog_8_method_30_code
def yX4_sendWaiting : MethodName := ⟨RX4, "sendWaiting", "(II)V"⟩
def dkwX4_sendWaiting_4 : List UInt8 := [180, 0, 64, 27, 50, 28, 92, 46, 4, 100, 79, 167, 255, 150, 177]
abbrev dktX4_sendWaiting_4 : List UInt8 := dkwX4_sendWaiting_4 ++ []
def dkwX4_sendWaiting_3 : List UInt8 := [50, 21, 4, 42, 180, 0, 69, 27, 50, 28, 50, 21, 4, 4, 96, 50, 83, 132, 4, 1, 167, 255, 214, 42]
abbrev dktX4_sendWaiting_3 : List UInt8 := dkwX4_sendWaiting_3 ++ dktX4_sendWaiting_4
def dkwX4_sendWaiting_2 : List UInt8 := [54, 4, 21, 4, 42, 180, 0, 64, 27, 50, 28, 46, 4, 100, 162, 0, 33, 42, 180, 0, 69, 27, 50, 28]
abbrev dktX4_sendWaiting_2 : List UInt8 := dkwX4_sendWaiting_2 ++ dktX4_sendWaiting_3
def dkwX4_sendWaiting_1 : List UInt8 := [27, 50, 28, 50, 3, 50, 78, 42, 27, 28, 45, 3, 46, 45, 4, 46, 45, 5, 46, 182, 0, 176, 3]
abbrev dktX4_sendWaiting_1 : List UInt8 := dkwX4_sendWaiting_1 ++ dktX4_sendWaiting_2
def dkwX4_sendWaiting_0 : List UInt8 := [42, 180, 0, 64, 27, 50, 28, 46, 158, 0, 101, 42, 27, 28, 182, 0, 173, 153, 0, 92, 42, 180, 0, 69]
abbrev dktX4_sendWaiting_0 : List UInt8 := dkwX4_sendWaiting_0 ++ dktX4_sendWaiting_1
theorem dksX4_sendWaiting_0 : cX4_sendWaiting.data.toList.drop 0 = dktX4_sendWaiting_0 := by decide +kernel
theorem dksX4_sendWaiting_1 : cX4_sendWaiting.data.toList.drop 24 = dktX4_sendWaiting_1 := dk_seg dksX4_sendWaiting_0 24 rfl rfl
theorem dksX4_sendWaiting_2 : cX4_sendWaiting.data.toList.drop 47 = dktX4_sendWaiting_2 := dk_seg dksX4_sendWaiting_1 23 rfl rfl
theorem dksX4_sendWaiting_3 : cX4_sendWaiting.data.toList.drop 71 = dktX4_sendWaiting_3 := dk_seg dksX4_sendWaiting_2 24 rfl rfl
theorem dksX4_sendWaiting_4 : cX4_sendWaiting.data.toList.drop 95 = dktX4_sendWaiting_4 := dk_seg dksX4_sendWaiting_3 24 rfl rfl
theorem dX4_sendWaiting_0 : decode cX4_sendWaiting 0 = .ok (.aload_n 0, 1) := dk_42 (dk_at dksX4_sendWaiting_0 0 rfl rfl)
theorem dX4_sendWaiting_1 : decode cX4_sendWaiting 1 = .ok (.getfield 64, 3) := dk_180 0 64 (dk_at dksX4_sendWaiting_0 1 rfl rfl)
theorem dX4_sendWaiting_4 : decode cX4_sendWaiting 4 = .ok (.iload_n 1, 1) := dk_27 (dk_at dksX4_sendWaiting_0 4 rfl rfl)
theorem dX4_sendWaiting_5 : decode cX4_sendWaiting 5 = .ok (.aaload, 1) := dk_50 (dk_at dksX4_sendWaiting_0 5 rfl rfl)
theorem dX4_sendWaiting_6 : decode cX4_sendWaiting 6 = .ok (.iload_n 2, 1) := dk_28 (dk_at dksX4_sendWaiting_0 6 rfl rfl)
theorem dX4_sendWaiting_7 : decode cX4_sendWaiting 7 = .ok (.iaload, 1) := dk_46 (dk_at dksX4_sendWaiting_0 7 rfl rfl)
theorem dX4_sendWaiting_8 : decode cX4_sendWaiting 8 = .ok (.ifCond .le 101, 3) := dk_158 0 101 (dk_at dksX4_sendWaiting_0 8 rfl rfl)
theorem dX4_sendWaiting_11 : decode cX4_sendWaiting 11 = .ok (.aload_n 0, 1) := dk_42 (dk_at dksX4_sendWaiting_0 11 rfl rfl)
theorem dX4_sendWaiting_12 : decode cX4_sendWaiting 12 = .ok (.iload_n 1, 1) := dk_27 (dk_at dksX4_sendWaiting_0 12 rfl rfl)
theorem dX4_sendWaiting_13 : decode cX4_sendWaiting 13 = .ok (.iload_n 2, 1) := dk_28 (dk_at dksX4_sendWaiting_0 13 rfl rfl)
theorem dX4_sendWaiting_14 : decode cX4_sendWaiting 14 = .ok (.invokevirtual 173, 3) := dk_182 0 173 (dk_at dksX4_sendWaiting_0 14 rfl rfl)
theorem dX4_sendWaiting_17 : decode cX4_sendWaiting 17 = .ok (.ifCond .eq 92, 3) := dk_153 0 92 (dk_at dksX4_sendWaiting_0 17 rfl rfl)
theorem dX4_sendWaiting_20 : decode cX4_sendWaiting 20 = .ok (.aload_n 0, 1) := dk_42 (dk_at dksX4_sendWaiting_0 20 rfl rfl)
theorem dX4_sendWaiting_21 : decode cX4_sendWaiting 21 = .ok (.getfield 69, 3) := dk_180 0 69 (dk_at dksX4_sendWaiting_0 21 rfl rfl)
theorem dX4_sendWaiting_24 : decode cX4_sendWaiting 24 = .ok (.iload_n 1, 1) := dk_27 (dk_at dksX4_sendWaiting_1 0 rfl rfl)
theorem dX4_sendWaiting_25 : decode cX4_sendWaiting 25 = .ok (.aaload, 1) := dk_50 (dk_at dksX4_sendWaiting_1 1 rfl rfl)
theorem dX4_sendWaiting_26 : decode cX4_sendWaiting 26 = .ok (.iload_n 2, 1) := dk_28 (dk_at dksX4_sendWaiting_1 2 rfl rfl)
theorem dX4_sendWaiting_27 : decode cX4_sendWaiting 27 = .ok (.aaload, 1) := dk_50 (dk_at dksX4_sendWaiting_1 3 rfl rfl)
theorem dX4_sendWaiting_28 : decode cX4_sendWaiting 28 = .ok (.iconst 0, 1) := dk_3 (dk_at dksX4_sendWaiting_1 4 rfl rfl)
theorem dX4_sendWaiting_29 : decode cX4_sendWaiting 29 = .ok (.aaload, 1) := dk_50 (dk_at dksX4_sendWaiting_1 5 rfl rfl)
theorem dX4_sendWaiting_30 : decode cX4_sendWaiting 30 = .ok (.astore_n 3, 1) := dk_78 (dk_at dksX4_sendWaiting_1 6 rfl rfl)
theorem dX4_sendWaiting_31 : decode cX4_sendWaiting 31 = .ok (.aload_n 0, 1) := dk_42 (dk_at dksX4_sendWaiting_1 7 rfl rfl)
theorem dX4_sendWaiting_32 : decode cX4_sendWaiting 32 = .ok (.iload_n 1, 1) := dk_27 (dk_at dksX4_sendWaiting_1 8 rfl rfl)
theorem dX4_sendWaiting_33 : decode cX4_sendWaiting 33 = .ok (.iload_n 2, 1) := dk_28 (dk_at dksX4_sendWaiting_1 9 rfl rfl)
theorem dX4_sendWaiting_34 : decode cX4_sendWaiting 34 = .ok (.aload_n 3, 1) := dk_45 (dk_at dksX4_sendWaiting_1 10 rfl rfl)
theorem dX4_sendWaiting_35 : decode cX4_sendWaiting 35 = .ok (.iconst 0, 1) := dk_3 (dk_at dksX4_sendWaiting_1 11 rfl rfl)
theorem dX4_sendWaiting_36 : decode cX4_sendWaiting 36 = .ok (.iaload, 1) := dk_46 (dk_at dksX4_sendWaiting_1 12 rfl rfl)
theorem dX4_sendWaiting_37 : decode cX4_sendWaiting 37 = .ok (.aload_n 3, 1) := dk_45 (dk_at dksX4_sendWaiting_1 13 rfl rfl)
theorem dX4_sendWaiting_38 : decode cX4_sendWaiting 38 = .ok (.iconst 1, 1) := dk_4 (dk_at dksX4_sendWaiting_1 14 rfl rfl)
theorem dX4_sendWaiting_39 : decode cX4_sendWaiting 39 = .ok (.iaload, 1) := dk_46 (dk_at dksX4_sendWaiting_1 15 rfl rfl)
theorem dX4_sendWaiting_40 : decode cX4_sendWaiting 40 = .ok (.aload_n 3, 1) := dk_45 (dk_at dksX4_sendWaiting_1 16 rfl rfl)
theorem dX4_sendWaiting_41 : decode cX4_sendWaiting 41 = .ok (.iconst 2, 1) := dk_5 (dk_at dksX4_sendWaiting_1 17 rfl rfl)
theorem dX4_sendWaiting_42 : decode cX4_sendWaiting 42 = .ok (.iaload, 1) := dk_46 (dk_at dksX4_sendWaiting_1 18 rfl rfl)
theorem dX4_sendWaiting_43 : decode cX4_sendWaiting 43 = .ok (.invokevirtual 176, 3) := dk_182 0 176 (dk_at dksX4_sendWaiting_1 19 rfl rfl)
theorem dX4_sendWaiting_46 : decode cX4_sendWaiting 46 = .ok (.iconst 0, 1) := dk_3 (dk_at dksX4_sendWaiting_1 22 rfl rfl)
theorem dX4_sendWaiting_47 : decode cX4_sendWaiting 47 = .ok (.istore 4, 2) := dk_54 4 (dk_at dksX4_sendWaiting_2 0 rfl rfl)
theorem dX4_sendWaiting_49 : decode cX4_sendWaiting 49 = .ok (.iload 4, 2) := dk_21 4 (dk_at dksX4_sendWaiting_2 2 rfl rfl)
theorem dX4_sendWaiting_51 : decode cX4_sendWaiting 51 = .ok (.aload_n 0, 1) := dk_42 (dk_at dksX4_sendWaiting_2 4 rfl rfl)
theorem dX4_sendWaiting_52 : decode cX4_sendWaiting 52 = .ok (.getfield 64, 3) := dk_180 0 64 (dk_at dksX4_sendWaiting_2 5 rfl rfl)
theorem dX4_sendWaiting_55 : decode cX4_sendWaiting 55 = .ok (.iload_n 1, 1) := dk_27 (dk_at dksX4_sendWaiting_2 8 rfl rfl)
theorem dX4_sendWaiting_56 : decode cX4_sendWaiting 56 = .ok (.aaload, 1) := dk_50 (dk_at dksX4_sendWaiting_2 9 rfl rfl)
theorem dX4_sendWaiting_57 : decode cX4_sendWaiting 57 = .ok (.iload_n 2, 1) := dk_28 (dk_at dksX4_sendWaiting_2 10 rfl rfl)
theorem dX4_sendWaiting_58 : decode cX4_sendWaiting 58 = .ok (.iaload, 1) := dk_46 (dk_at dksX4_sendWaiting_2 11 rfl rfl)
theorem dX4_sendWaiting_59 : decode cX4_sendWaiting 59 = .ok (.iconst 1, 1) := dk_4 (dk_at dksX4_sendWaiting_2 12 rfl rfl)
theorem dX4_sendWaiting_60 : decode cX4_sendWaiting 60 = .ok (.isub, 1) := dk_100 (dk_at dksX4_sendWaiting_2 13 rfl rfl)
theorem dX4_sendWaiting_61 : decode cX4_sendWaiting 61 = .ok (.if_icmp .ge 33, 3) := dk_162 0 33 (dk_at dksX4_sendWaiting_2 14 rfl rfl)
theorem dX4_sendWaiting_64 : decode cX4_sendWaiting 64 = .ok (.aload_n 0, 1) := dk_42 (dk_at dksX4_sendWaiting_2 17 rfl rfl)
theorem dX4_sendWaiting_65 : decode cX4_sendWaiting 65 = .ok (.getfield 69, 3) := dk_180 0 69 (dk_at dksX4_sendWaiting_2 18 rfl rfl)
theorem dX4_sendWaiting_68 : decode cX4_sendWaiting 68 = .ok (.iload_n 1, 1) := dk_27 (dk_at dksX4_sendWaiting_2 21 rfl rfl)
theorem dX4_sendWaiting_69 : decode cX4_sendWaiting 69 = .ok (.aaload, 1) := dk_50 (dk_at dksX4_sendWaiting_2 22 rfl rfl)
theorem dX4_sendWaiting_70 : decode cX4_sendWaiting 70 = .ok (.iload_n 2, 1) := dk_28 (dk_at dksX4_sendWaiting_2 23 rfl rfl)
theorem dX4_sendWaiting_71 : decode cX4_sendWaiting 71 = .ok (.aaload, 1) := dk_50 (dk_at dksX4_sendWaiting_3 0 rfl rfl)
theorem dX4_sendWaiting_72 : decode cX4_sendWaiting 72 = .ok (.iload 4, 2) := dk_21 4 (dk_at dksX4_sendWaiting_3 1 rfl rfl)
theorem dX4_sendWaiting_74 : decode cX4_sendWaiting 74 = .ok (.aload_n 0, 1) := dk_42 (dk_at dksX4_sendWaiting_3 3 rfl rfl)
theorem dX4_sendWaiting_75 : decode cX4_sendWaiting 75 = .ok (.getfield 69, 3) := dk_180 0 69 (dk_at dksX4_sendWaiting_3 4 rfl rfl)
theorem dX4_sendWaiting_78 : decode cX4_sendWaiting 78 = .ok (.iload_n 1, 1) := dk_27 (dk_at dksX4_sendWaiting_3 7 rfl rfl)
theorem dX4_sendWaiting_79 : decode cX4_sendWaiting 79 = .ok (.aaload, 1) := dk_50 (dk_at dksX4_sendWaiting_3 8 rfl rfl)
theorem dX4_sendWaiting_80 : decode cX4_sendWaiting 80 = .ok (.iload_n 2, 1) := dk_28 (dk_at dksX4_sendWaiting_3 9 rfl rfl)
theorem dX4_sendWaiting_81 : decode cX4_sendWaiting 81 = .ok (.aaload, 1) := dk_50 (dk_at dksX4_sendWaiting_3 10 rfl rfl)
theorem dX4_sendWaiting_82 : decode cX4_sendWaiting 82 = .ok (.iload 4, 2) := dk_21 4 (dk_at dksX4_sendWaiting_3 11 rfl rfl)
theorem dX4_sendWaiting_84 : decode cX4_sendWaiting 84 = .ok (.iconst 1, 1) := dk_4 (dk_at dksX4_sendWaiting_3 13 rfl rfl)
theorem dX4_sendWaiting_85 : decode cX4_sendWaiting 85 = .ok (.iadd, 1) := dk_96 (dk_at dksX4_sendWaiting_3 14 rfl rfl)
theorem dX4_sendWaiting_86 : decode cX4_sendWaiting 86 = .ok (.aaload, 1) := dk_50 (dk_at dksX4_sendWaiting_3 15 rfl rfl)
theorem dX4_sendWaiting_87 : decode cX4_sendWaiting 87 = .ok (.aastore, 1) := dk_83 (dk_at dksX4_sendWaiting_3 16 rfl rfl)
theorem dX4_sendWaiting_88 : decode cX4_sendWaiting 88 = .ok (.iinc 4 1, 3) := dk_132 4 1 (dk_at dksX4_sendWaiting_3 17 rfl rfl)
theorem dX4_sendWaiting_91 : decode cX4_sendWaiting 91 = .ok (.goto (-42), 3) := dk_167 255 214 (dk_at dksX4_sendWaiting_3 20 rfl rfl)
theorem dX4_sendWaiting_94 : decode cX4_sendWaiting 94 = .ok (.aload_n 0, 1) := dk_42 (dk_at dksX4_sendWaiting_3 23 rfl rfl)
theorem dX4_sendWaiting_95 : decode cX4_sendWaiting 95 = .ok (.getfield 64, 3) := dk_180 0 64 (dk_at dksX4_sendWaiting_4 0 rfl rfl)
theorem dX4_sendWaiting_98 : decode cX4_sendWaiting 98 = .ok (.iload_n 1, 1) := dk_27 (dk_at dksX4_sendWaiting_4 3 rfl rfl)
theorem dX4_sendWaiting_99 : decode cX4_sendWaiting 99 = .ok (.aaload, 1) := dk_50 (dk_at dksX4_sendWaiting_4 4 rfl rfl)
theorem dX4_sendWaiting_100 : decode cX4_sendWaiting 100 = .ok (.iload_n 2, 1) := dk_28 (dk_at dksX4_sendWaiting_4 5 rfl rfl)
theorem dX4_sendWaiting_101 : decode cX4_sendWaiting 101 = .ok (.dup2, 1) := dk_92 (dk_at dksX4_sendWaiting_4 6 rfl rfl)
theorem dX4_sendWaiting_102 : decode cX4_sendWaiting 102 = .ok (.iaload, 1) := dk_46 (dk_at dksX4_sendWaiting_4 7 rfl rfl)
theorem dX4_sendWaiting_103 : decode cX4_sendWaiting 103 = .ok (.iconst 1, 1) := dk_4 (dk_at dksX4_sendWaiting_4 8 rfl rfl)
theorem dX4_sendWaiting_104 : decode cX4_sendWaiting 104 = .ok (.isub, 1) := dk_100 (dk_at dksX4_sendWaiting_4 9 rfl rfl)
theorem dX4_sendWaiting_105 : decode cX4_sendWaiting 105 = .ok (.iastore, 1) := dk_79 (dk_at dksX4_sendWaiting_4 10 rfl rfl)
theorem dX4_sendWaiting_106 : decode cX4_sendWaiting 106 = .ok (.goto (-106), 3) := dk_167 255 150 (dk_at dksX4_sendWaiting_4 11 rfl rfl)
theorem dX4_sendWaiting_109 : decode cX4_sendWaiting 109 = .ok (.return_, 1) := dk_177 (dk_at dksX4_sendWaiting_4 14 rfl rfl)
abbrev cX4_gotCookie : ByteArray := prog_8_method_35_code
def yX4_gotCookie : MethodName := ⟨RX4, "gotCookie", "(I[I)I"⟩
def dkwX4_gotCookie_4 : List UInt8 := [42, 180, 0, 61, 27, 50, 21, 5, 42, 180, 0, 129, 79, 6, 172]
abbrev dktX4_gotCookie_4 : List UInt8 := dkwX4_gotCookie_4 ++ []
def dkwX4_gotCookie_3 : List UInt8 := [5, 21, 4, 79, 184, 0, 154, 159, 0, 6, 16, 254, 172, 42, 180, 0, 58, 27, 50, 21, 5, 21, 4, 79]
abbrev dktX4_gotCookie_3 : List UInt8 := dkwX4_gotCookie_3 ++ dktX4_gotCookie_4
def dkwX4_gotCookie_2 : List UInt8 := [180, 0, 52, 27, 50, 21, 5, 46, 79, 184, 0, 138, 6, 188, 10, 89, 3, 6, 79, 89, 4, 29, 79, 89]
abbrev dktX4_gotCookie_2 : List UInt8 := dkwX4_gotCookie_2 ++ dktX4_gotCookie_3
def dkwX4_gotCookie_1 : List UInt8 := [172, 44, 8, 46, 6, 188, 10, 89, 3, 6, 79, 89, 4, 21, 5, 184, 0, 132, 79, 89, 5, 42]
abbrev dktX4_gotCookie_1 : List UInt8 := dkwX4_gotCookie_1 ++ dktX4_gotCookie_2
def dkwX4_gotCookie_0 : List UInt8 := [44, 6, 46, 62, 44, 7, 46, 54, 4, 42, 27, 29, 182, 0, 184, 54, 5, 21, 5, 2, 160, 0, 5, 2]
abbrev dktX4_gotCookie_0 : List UInt8 := dkwX4_gotCookie_0 ++ dktX4_gotCookie_1
theorem dksX4_gotCookie_0 : cX4_gotCookie.data.toList.drop 0 = dktX4_gotCookie_0 := by decide +kernel
theorem dksX4_gotCookie_1 : cX4_gotCookie.data.toList.drop 24 = dktX4_gotCookie_1 := dk_seg dksX4_gotCookie_0 24 rfl rfl
theorem dksX4_gotCookie_2 : cX4_gotCookie.data.toList.drop 46 = dktX4_gotCookie_2 := dk_seg dksX4_gotCookie_1 22 rfl rfl
theorem dksX4_gotCookie_3 : cX4_gotCookie.data.toList.drop 70 = dktX4_gotCookie_3 := dk_seg dksX4_gotCookie_2 24 rfl rfl
theorem dksX4_gotCookie_4 : cX4_gotCookie.data.toList.drop 94 = dktX4_gotCookie_4 := dk_seg dksX4_gotCookie_3 24 rfl rfl
theorem dX4_gotCookie_0 : decode cX4_gotCookie 0 = .ok (.aload_n 2, 1) := dk_44 (dk_at dksX4_gotCookie_0 0 rfl rfl)
theorem dX4_gotCookie_1 : decode cX4_gotCookie 1 = .ok (.iconst 3, 1) := dk_6 (dk_at dksX4_gotCookie_0 1 rfl rfl)
theorem dX4_gotCookie_2 : decode cX4_gotCookie 2 = .ok (.iaload, 1) := dk_46 (dk_at dksX4_gotCookie_0 2 rfl rfl)
theorem dX4_gotCookie_3 : decode cX4_gotCookie 3 = .ok (.istore_n 3, 1) := dk_62 (dk_at dksX4_gotCookie_0 3 rfl rfl)
theorem dX4_gotCookie_4 : decode cX4_gotCookie 4 = .ok (.aload_n 2, 1) := dk_44 (dk_at dksX4_gotCookie_0 4 rfl rfl)
theorem dX4_gotCookie_5 : decode cX4_gotCookie 5 = .ok (.iconst 4, 1) := dk_7 (dk_at dksX4_gotCookie_0 5 rfl rfl)
theorem dX4_gotCookie_6 : decode cX4_gotCookie 6 = .ok (.iaload, 1) := dk_46 (dk_at dksX4_gotCookie_0 6 rfl rfl)
theorem dX4_gotCookie_7 : decode cX4_gotCookie 7 = .ok (.istore 4, 2) := dk_54 4 (dk_at dksX4_gotCookie_0 7 rfl rfl)
theorem dX4_gotCookie_9 : decode cX4_gotCookie 9 = .ok (.aload_n 0, 1) := dk_42 (dk_at dksX4_gotCookie_0 9 rfl rfl)
theorem dX4_gotCookie_10 : decode cX4_gotCookie 10 = .ok (.iload_n 1, 1) := dk_27 (dk_at dksX4_gotCookie_0 10 rfl rfl)
theorem dX4_gotCookie_11 : decode cX4_gotCookie 11 = .ok (.iload_n 3, 1) := dk_29 (dk_at dksX4_gotCookie_0 11 rfl rfl)
theorem dX4_gotCookie_12 : decode cX4_gotCookie 12 = .ok (.invokevirtual 184, 3) := dk_182 0 184 (dk_at dksX4_gotCookie_0 12 rfl rfl)
theorem dX4_gotCookie_15 : decode cX4_gotCookie 15 = .ok (.istore 5, 2) := dk_54 5 (dk_at dksX4_gotCookie_0 15 rfl rfl)
theorem dX4_gotCookie_17 : decode cX4_gotCookie 17 = .ok (.iload 5, 2) := dk_21 5 (dk_at dksX4_gotCookie_0 17 rfl rfl)
theorem dX4_gotCookie_19 : decode cX4_gotCookie 19 = .ok (.iconst (-1), 1) := dk_2 (dk_at dksX4_gotCookie_0 19 rfl rfl)
theorem dX4_gotCookie_20 : decode cX4_gotCookie 20 = .ok (.if_icmp .ne 5, 3) := dk_160 0 5 (dk_at dksX4_gotCookie_0 20 rfl rfl)
theorem dX4_gotCookie_23 : decode cX4_gotCookie 23 = .ok (.iconst (-1), 1) := dk_2 (dk_at dksX4_gotCookie_0 23 rfl rfl)
theorem dX4_gotCookie_24 : decode cX4_gotCookie 24 = .ok (.ireturn, 1) := dk_172 (dk_at dksX4_gotCookie_1 0 rfl rfl)
theorem dX4_gotCookie_25 : decode cX4_gotCookie 25 = .ok (.aload_n 2, 1) := dk_44 (dk_at dksX4_gotCookie_1 1 rfl rfl)
theorem dX4_gotCookie_26 : decode cX4_gotCookie 26 = .ok (.iconst 5, 1) := dk_8 (dk_at dksX4_gotCookie_1 2 rfl rfl)
theorem dX4_gotCookie_27 : decode cX4_gotCookie 27 = .ok (.iaload, 1) := dk_46 (dk_at dksX4_gotCookie_1 3 rfl rfl)
theorem dX4_gotCookie_28 : decode cX4_gotCookie 28 = .ok (.iconst 3, 1) := dk_6 (dk_at dksX4_gotCookie_1 4 rfl rfl)
theorem dX4_gotCookie_29 : decode cX4_gotCookie 29 = .ok (.newarray .int, 2) := dk_188_10 (dk_at dksX4_gotCookie_1 5 rfl rfl)
theorem dX4_gotCookie_31 : decode cX4_gotCookie 31 = .ok (.dup, 1) := dk_89 (dk_at dksX4_gotCookie_1 7 rfl rfl)
theorem dX4_gotCookie_32 : decode cX4_gotCookie 32 = .ok (.iconst 0, 1) := dk_3 (dk_at dksX4_gotCookie_1 8 rfl rfl)
theorem dX4_gotCookie_33 : decode cX4_gotCookie 33 = .ok (.iconst 3, 1) := dk_6 (dk_at dksX4_gotCookie_1 9 rfl rfl)
theorem dX4_gotCookie_34 : decode cX4_gotCookie 34 = .ok (.iastore, 1) := dk_79 (dk_at dksX4_gotCookie_1 10 rfl rfl)
theorem dX4_gotCookie_35 : decode cX4_gotCookie 35 = .ok (.dup, 1) := dk_89 (dk_at dksX4_gotCookie_1 11 rfl rfl)
theorem dX4_gotCookie_36 : decode cX4_gotCookie 36 = .ok (.iconst 1, 1) := dk_4 (dk_at dksX4_gotCookie_1 12 rfl rfl)
theorem dX4_gotCookie_37 : decode cX4_gotCookie 37 = .ok (.iload 5, 2) := dk_21 5 (dk_at dksX4_gotCookie_1 13 rfl rfl)
theorem dX4_gotCookie_39 : decode cX4_gotCookie 39 = .ok (.invokestatic 132, 3) := dk_184 0 132 (dk_at dksX4_gotCookie_1 15 rfl rfl)
theorem dX4_gotCookie_42 : decode cX4_gotCookie 42 = .ok (.iastore, 1) := dk_79 (dk_at dksX4_gotCookie_1 18 rfl rfl)
theorem dX4_gotCookie_43 : decode cX4_gotCookie 43 = .ok (.dup, 1) := dk_89 (dk_at dksX4_gotCookie_1 19 rfl rfl)
theorem dX4_gotCookie_44 : decode cX4_gotCookie 44 = .ok (.iconst 2, 1) := dk_5 (dk_at dksX4_gotCookie_1 20 rfl rfl)
theorem dX4_gotCookie_45 : decode cX4_gotCookie 45 = .ok (.aload_n 0, 1) := dk_42 (dk_at dksX4_gotCookie_1 21 rfl rfl)
theorem dX4_gotCookie_46 : decode cX4_gotCookie 46 = .ok (.getfield 52, 3) := dk_180 0 52 (dk_at dksX4_gotCookie_2 0 rfl rfl)
theorem dX4_gotCookie_49 : decode cX4_gotCookie 49 = .ok (.iload_n 1, 1) := dk_27 (dk_at dksX4_gotCookie_2 3 rfl rfl)
theorem dX4_gotCookie_50 : decode cX4_gotCookie 50 = .ok (.aaload, 1) := dk_50 (dk_at dksX4_gotCookie_2 4 rfl rfl)
theorem dX4_gotCookie_51 : decode cX4_gotCookie 51 = .ok (.iload 5, 2) := dk_21 5 (dk_at dksX4_gotCookie_2 5 rfl rfl)
theorem dX4_gotCookie_53 : decode cX4_gotCookie 53 = .ok (.iaload, 1) := dk_46 (dk_at dksX4_gotCookie_2 7 rfl rfl)
theorem dX4_gotCookie_54 : decode cX4_gotCookie 54 = .ok (.iastore, 1) := dk_79 (dk_at dksX4_gotCookie_2 8 rfl rfl)
theorem dX4_gotCookie_55 : decode cX4_gotCookie 55 = .ok (.invokestatic 138, 3) := dk_184 0 138 (dk_at dksX4_gotCookie_2 9 rfl rfl)
theorem dX4_gotCookie_58 : decode cX4_gotCookie 58 = .ok (.iconst 3, 1) := dk_6 (dk_at dksX4_gotCookie_2 12 rfl rfl)
theorem dX4_gotCookie_59 : decode cX4_gotCookie 59 = .ok (.newarray .int, 2) := dk_188_10 (dk_at dksX4_gotCookie_2 13 rfl rfl)
theorem dX4_gotCookie_61 : decode cX4_gotCookie 61 = .ok (.dup, 1) := dk_89 (dk_at dksX4_gotCookie_2 15 rfl rfl)
theorem dX4_gotCookie_62 : decode cX4_gotCookie 62 = .ok (.iconst 0, 1) := dk_3 (dk_at dksX4_gotCookie_2 16 rfl rfl)
theorem dX4_gotCookie_63 : decode cX4_gotCookie 63 = .ok (.iconst 3, 1) := dk_6 (dk_at dksX4_gotCookie_2 17 rfl rfl)
theorem dX4_gotCookie_64 : decode cX4_gotCookie 64 = .ok (.iastore, 1) := dk_79 (dk_at dksX4_gotCookie_2 18 rfl rfl)
theorem dX4_gotCookie_65 : decode cX4_gotCookie 65 = .ok (.dup, 1) := dk_89 (dk_at dksX4_gotCookie_2 19 rfl rfl)
theorem dX4_gotCookie_66 : decode cX4_gotCookie 66 = .ok (.iconst 1, 1) := dk_4 (dk_at dksX4_gotCookie_2 20 rfl rfl)
theorem dX4_gotCookie_67 : decode cX4_gotCookie 67 = .ok (.iload_n 3, 1) := dk_29 (dk_at dksX4_gotCookie_2 21 rfl rfl)
theorem dX4_gotCookie_68 : decode cX4_gotCookie 68 = .ok (.iastore, 1) := dk_79 (dk_at dksX4_gotCookie_2 22 rfl rfl)
theorem dX4_gotCookie_69 : decode cX4_gotCookie 69 = .ok (.dup, 1) := dk_89 (dk_at dksX4_gotCookie_2 23 rfl rfl)
theorem dX4_gotCookie_70 : decode cX4_gotCookie 70 = .ok (.iconst 2, 1) := dk_5 (dk_at dksX4_gotCookie_3 0 rfl rfl)
theorem dX4_gotCookie_71 : decode cX4_gotCookie 71 = .ok (.iload 4, 2) := dk_21 4 (dk_at dksX4_gotCookie_3 1 rfl rfl)
theorem dX4_gotCookie_73 : decode cX4_gotCookie 73 = .ok (.iastore, 1) := dk_79 (dk_at dksX4_gotCookie_3 3 rfl rfl)
theorem dX4_gotCookie_74 : decode cX4_gotCookie 74 = .ok (.invokestatic 154, 3) := dk_184 0 154 (dk_at dksX4_gotCookie_3 4 rfl rfl)
theorem dX4_gotCookie_77 : decode cX4_gotCookie 77 = .ok (.if_icmp .eq 6, 3) := dk_159 0 6 (dk_at dksX4_gotCookie_3 7 rfl rfl)
theorem dX4_gotCookie_80 : decode cX4_gotCookie 80 = .ok (.bipush (-2), 2) := dk_16 254 (dk_at dksX4_gotCookie_3 10 rfl rfl)
theorem dX4_gotCookie_82 : decode cX4_gotCookie 82 = .ok (.ireturn, 1) := dk_172 (dk_at dksX4_gotCookie_3 12 rfl rfl)
theorem dX4_gotCookie_83 : decode cX4_gotCookie 83 = .ok (.aload_n 0, 1) := dk_42 (dk_at dksX4_gotCookie_3 13 rfl rfl)
theorem dX4_gotCookie_84 : decode cX4_gotCookie 84 = .ok (.getfield 58, 3) := dk_180 0 58 (dk_at dksX4_gotCookie_3 14 rfl rfl)
theorem dX4_gotCookie_87 : decode cX4_gotCookie 87 = .ok (.iload_n 1, 1) := dk_27 (dk_at dksX4_gotCookie_3 17 rfl rfl)
theorem dX4_gotCookie_88 : decode cX4_gotCookie 88 = .ok (.aaload, 1) := dk_50 (dk_at dksX4_gotCookie_3 18 rfl rfl)
theorem dX4_gotCookie_89 : decode cX4_gotCookie 89 = .ok (.iload 5, 2) := dk_21 5 (dk_at dksX4_gotCookie_3 19 rfl rfl)
theorem dX4_gotCookie_91 : decode cX4_gotCookie 91 = .ok (.iload 4, 2) := dk_21 4 (dk_at dksX4_gotCookie_3 21 rfl rfl)
theorem dX4_gotCookie_93 : decode cX4_gotCookie 93 = .ok (.iastore, 1) := dk_79 (dk_at dksX4_gotCookie_3 23 rfl rfl)
theorem dX4_gotCookie_94 : decode cX4_gotCookie 94 = .ok (.aload_n 0, 1) := dk_42 (dk_at dksX4_gotCookie_4 0 rfl rfl)
theorem dX4_gotCookie_95 : decode cX4_gotCookie 95 = .ok (.getfield 61, 3) := dk_180 0 61 (dk_at dksX4_gotCookie_4 1 rfl rfl)
theorem dX4_gotCookie_98 : decode cX4_gotCookie 98 = .ok (.iload_n 1, 1) := dk_27 (dk_at dksX4_gotCookie_4 4 rfl rfl)
theorem dX4_gotCookie_99 : decode cX4_gotCookie 99 = .ok (.aaload, 1) := dk_50 (dk_at dksX4_gotCookie_4 5 rfl rfl)
theorem dX4_gotCookie_100 : decode cX4_gotCookie 100 = .ok (.iload 5, 2) := dk_21 5 (dk_at dksX4_gotCookie_4 6 rfl rfl)
theorem dX4_gotCookie_102 : decode cX4_gotCookie 102 = .ok (.aload_n 0, 1) := dk_42 (dk_at dksX4_gotCookie_4 8 rfl rfl)
theorem dX4_gotCookie_103 : decode cX4_gotCookie 103 = .ok (.getfield 129, 3) := dk_180 0 129 (dk_at dksX4_gotCookie_4 9 rfl rfl)
theorem dX4_gotCookie_106 : decode cX4_gotCookie 106 = .ok (.iastore, 1) := dk_79 (dk_at dksX4_gotCookie_4 12 rfl rfl)
theorem dX4_gotCookie_107 : decode cX4_gotCookie 107 = .ok (.iconst 3, 1) := dk_6 (dk_at dksX4_gotCookie_4 13 rfl rfl)
theorem dX4_gotCookie_108 : decode cX4_gotCookie 108 = .ok (.ireturn, 1) := dk_172 (dk_at dksX4_gotCookie_4 14 rfl rfl)
abbrev cX4_gotData : ByteArray := prog_8_method_36_code
def yX4_gotData : MethodName := ⟨RX4, "gotData", "(I[I)I"⟩
def dkwX4_gotData_22 : List UInt8 := [181, 0, 83, 42, 180, 0, 20, 27, 92, 46, 4, 96, 79, 4, 172]
abbrev dktX4_gotData_22 : List UInt8 := dkwX4_gotData_22 ++ []
def dkwX4_gotData_21 : List UInt8 := [89, 4, 21, 8, 79, 89, 5, 21, 5, 79, 89, 6, 21, 6, 79, 89, 7, 21, 7, 79, 83, 42, 25, 11]
abbrev dktX4_gotData_21 : List UInt8 := dkwX4_gotData_21 ++ dktX4_gotData_22
def dkwX4_gotData_20 : List UInt8 := [21, 12, 50, 83, 132, 12, 1, 167, 255, 231, 25, 11, 42, 180, 0, 83, 190, 8, 188, 10, 89, 3, 27, 79]
abbrev dktX4_gotData_20 : List UInt8 := dkwX4_gotData_20 ++ dktX4_gotData_21
def dkwX4_gotData_19 : List UInt8 := [58, 11, 3, 54, 12, 21, 12, 42, 180, 0, 83, 190, 162, 0, 21, 25, 11, 21, 12, 42, 180, 0, 83]
abbrev dktX4_gotData_19 : List UInt8 := dkwX4_gotData_19 ++ dktX4_gotData_20
def dkwX4_gotData_18 : List UInt8 := [27, 21, 5, 182, 0, 196, 21, 8, 159, 0, 6, 16, 251, 172, 42, 180, 0, 83, 190, 4, 96, 189, 0, 199]
abbrev dktX4_gotData_18 : List UInt8 := dkwX4_gotData_18 ++ dktX4_gotData_19
def dkwX4_gotData_17 : List UInt8 := [182, 0, 191, 21, 5, 2, 160, 0, 17, 21, 6, 2, 160, 0, 11, 21, 7, 2, 160, 0, 5, 5, 172, 42]
abbrev dktX4_gotData_17 : List UInt8 := dkwX4_gotData_17 ++ dktX4_gotData_18
def dkwX4_gotData_16 : List UInt8 := [16, 9, 188, 10, 83, 42, 180, 0, 77, 27, 50, 21, 8, 50, 5, 16, 40, 188, 4, 83, 42, 27, 21, 8]
abbrev dktX4_gotData_16 : List UInt8 := dkwX4_gotData_16 ++ dktX4_gotData_17
def dkwX4_gotData_15 : List UInt8 := [50, 4, 42, 180, 0, 77, 27, 50, 21, 8, 50, 5, 50, 83, 42, 180, 0, 72, 27, 50, 21, 8, 50, 5]
abbrev dktX4_gotData_15 : List UInt8 := dkwX4_gotData_15 ++ dktX4_gotData_16
def dkwX4_gotData_14 : List UInt8 := [182, 0, 187, 42, 180, 0, 72, 27, 50, 21, 8, 50, 4, 25, 10, 83, 42, 180, 0, 77, 27, 50, 21, 8]
abbrev dktX4_gotData_14 : List UInt8 := dkwX4_gotData_14 ++ dktX4_gotData_15
def dkwX4_gotData_13 : List UInt8 := [79, 42, 180, 0, 37, 27, 50, 21, 8, 44, 3, 46, 79, 21, 9, 5, 160, 0, 82, 42, 27, 21, 8]
abbrev dktX4_gotData_13 : List UInt8 := dkwX4_gotData_13 ++ dktX4_gotData_14
def dkwX4_gotData_12 : List UInt8 := [84, 25, 10, 16, 7, 25, 10, 16, 7, 46, 21, 4, 184, 0, 145, 79, 25, 10, 16, 8, 92, 46, 4, 96]
abbrev dktX4_gotData_12 : List UInt8 := dkwX4_gotData_12 ++ dktX4_gotData_13
def dkwX4_gotData_11 : List UInt8 := [20, 0, 194, 184, 0, 91, 153, 0, 19, 42, 180, 0, 77, 27, 50, 21, 8, 50, 21, 9, 50, 21, 4, 4]
abbrev dktX4_gotData_11 : List UInt8 := dkwX4_gotData_11 ++ dktX4_gotData_12
def dkwX4_gotData_10 : List UInt8 := [158, 0, 19, 21, 4, 25, 10, 16, 7, 46, 16, 16, 100, 163, 0, 6, 16, 253, 172, 21, 4, 133, 9]
abbrev dktX4_gotData_10 : List UInt8 := dkwX4_gotData_10 ++ dktX4_gotData_11
def dkwX4_gotData_9 : List UInt8 := [180, 0, 77, 27, 50, 21, 8, 50, 21, 9, 50, 21, 4, 51, 154, 0, 24, 25, 10, 16, 8, 46]
abbrev dktX4_gotData_9 : List UInt8 := dkwX4_gotData_9 ++ dktX4_gotData_10
def dkwX4_gotData_8 : List UInt8 := [184, 0, 154, 159, 0, 6, 16, 254, 172, 21, 4, 133, 9, 20, 0, 194, 184, 0, 91, 153, 0, 21, 42]
abbrev dktX4_gotData_8 : List UInt8 := dkwX4_gotData_8 ++ dktX4_gotData_9
def dkwX4_gotData_7 : List UInt8 := [29, 79, 89, 5, 21, 4, 79, 89, 6, 21, 5, 79, 89, 7, 21, 6, 79, 89, 8, 21, 7, 79]
abbrev dktX4_gotData_7 : List UInt8 := dkwX4_gotData_7 ++ dktX4_gotData_8
def dkwX4_gotData_6 : List UInt8 := [161, 0, 6, 16, 252, 172, 44, 16, 8, 46, 25, 10, 7, 46, 16, 6, 188, 10, 89, 3, 7, 79, 89, 4]
abbrev dktX4_gotData_6 : List UInt8 := dkwX4_gotData_6 ++ dktX4_gotData_7
def dkwX4_gotData_5 : List UInt8 := [180, 0, 72, 27, 50, 21, 8, 50, 21, 9, 50, 58, 10, 42, 27, 21, 8, 21, 9, 182, 0, 170, 16, 30]
abbrev dktX4_gotData_5 : List UInt8 := dkwX4_gotData_5 ++ dktX4_gotData_6
def dkwX4_gotData_4 : List UInt8 := [54, 9, 132, 11, 1, 167, 255, 203, 132, 10, 1, 167, 255, 188, 21, 8, 2, 160, 0, 5, 2, 172, 42]
abbrev dktX4_gotData_4 : List UInt8 := dkwX4_gotData_4 ++ dktX4_gotData_5
def dkwX4_gotData_3 : List UInt8 := [180, 0, 72, 27, 50, 21, 10, 50, 21, 11, 50, 3, 46, 29, 160, 0, 11, 21, 10, 54, 8, 21, 11]
abbrev dktX4_gotData_3 : List UInt8 := dkwX4_gotData_3 ++ dktX4_gotData_4
def dkwX4_gotData_2 : List UInt8 := [162, 0, 53, 21, 10, 27, 159, 0, 41, 42, 27, 21, 10, 21, 11, 182, 0, 166, 153, 0, 29, 42]
abbrev dktX4_gotData_2 : List UInt8 := dkwX4_gotData_2 ++ dktX4_gotData_3
def dkwX4_gotData_1 : List UInt8 := [54, 7, 2, 54, 8, 2, 54, 9, 3, 54, 10, 21, 10, 6, 162, 0, 68, 3, 54, 11, 21, 11, 6]
abbrev dktX4_gotData_1 : List UInt8 := dkwX4_gotData_1 ++ dktX4_gotData_2
def dkwX4_gotData_0 : List UInt8 := [44, 6, 46, 62, 44, 7, 46, 54, 4, 44, 8, 46, 54, 5, 44, 16, 6, 46, 54, 6, 44, 16, 7, 46]
abbrev dktX4_gotData_0 : List UInt8 := dkwX4_gotData_0 ++ dktX4_gotData_1
theorem dksX4_gotData_0 : cX4_gotData.data.toList.drop 0 = dktX4_gotData_0 := by decide +kernel
theorem dksX4_gotData_1 : cX4_gotData.data.toList.drop 24 = dktX4_gotData_1 := dk_seg dksX4_gotData_0 24 rfl rfl
theorem dksX4_gotData_2 : cX4_gotData.data.toList.drop 47 = dktX4_gotData_2 := dk_seg dksX4_gotData_1 23 rfl rfl
theorem dksX4_gotData_3 : cX4_gotData.data.toList.drop 69 = dktX4_gotData_3 := dk_seg dksX4_gotData_2 22 rfl rfl
theorem dksX4_gotData_4 : cX4_gotData.data.toList.drop 92 = dktX4_gotData_4 := dk_seg dksX4_gotData_3 23 rfl rfl
theorem dksX4_gotData_5 : cX4_gotData.data.toList.drop 115 = dktX4_gotData_5 := dk_seg dksX4_gotData_4 23 rfl rfl
theorem dksX4_gotData_6 : cX4_gotData.data.toList.drop 139 = dktX4_gotData_6 := dk_seg dksX4_gotData_5 24 rfl rfl
theorem dksX4_gotData_7 : cX4_gotData.data.toList.drop 163 = dktX4_gotData_7 := dk_seg dksX4_gotData_6 24 rfl rfl
theorem dksX4_gotData_8 : cX4_gotData.data.toList.drop 185 = dktX4_gotData_8 := dk_seg dksX4_gotData_7 22 rfl rfl
theorem dksX4_gotData_9 : cX4_gotData.data.toList.drop 208 = dktX4_gotData_9 := dk_seg dksX4_gotData_8 23 rfl rfl
theorem dksX4_gotData_10 : cX4_gotData.data.toList.drop 230 = dktX4_gotData_10 := dk_seg dksX4_gotData_9 22 rfl rfl
theorem dksX4_gotData_11 : cX4_gotData.data.toList.drop 253 = dktX4_gotData_11 := dk_seg dksX4_gotData_10 23 rfl rfl
theorem dksX4_gotData_12 : cX4_gotData.data.toList.drop 277 = dktX4_gotData_12 := dk_seg dksX4_gotData_11 24 rfl rfl
theorem dksX4_gotData_13 : cX4_gotData.data.toList.drop 301 = dktX4_gotData_13 := dk_seg dksX4_gotData_12 24 rfl rfl
theorem dksX4_gotData_14 : cX4_gotData.data.toList.drop 324 = dktX4_gotData_14 := dk_seg dksX4_gotData_13 23 rfl rfl
theorem dksX4_gotData_15 : cX4_gotData.data.toList.drop 348 = dktX4_gotData_15 := dk_seg dksX4_gotData_14 24 rfl rfl
theorem dksX4_gotData_16 : cX4_gotData.data.toList.drop 372 = dktX4_gotData_16 := dk_seg dksX4_gotData_15 24 rfl rfl
theorem dksX4_gotData_17 : cX4_gotData.data.toList.drop 396 = dktX4_gotData_17 := dk_seg dksX4_gotData_16 24 rfl rfl
theorem dksX4_gotData_18 : cX4_gotData.data.toList.drop 420 = dktX4_gotData_18 := dk_seg dksX4_gotData_17 24 rfl rfl
theorem dksX4_gotData_19 : cX4_gotData.data.toList.drop 444 = dktX4_gotData_19 := dk_seg dksX4_gotData_18 24 rfl rfl
theorem dksX4_gotData_20 : cX4_gotData.data.toList.drop 467 = dktX4_gotData_20 := dk_seg dksX4_gotData_19 23 rfl rfl
theorem dksX4_gotData_21 : cX4_gotData.data.toList.drop 491 = dktX4_gotData_21 := dk_seg dksX4_gotData_20 24 rfl rfl
theorem dksX4_gotData_22 : cX4_gotData.data.toList.drop 515 = dktX4_gotData_22 := dk_seg dksX4_gotData_21 24 rfl rfl
theorem dX4_gotData_0 : decode cX4_gotData 0 = .ok (.aload_n 2, 1) := dk_44 (dk_at dksX4_gotData_0 0 rfl rfl)
theorem dX4_gotData_1 : decode cX4_gotData 1 = .ok (.iconst 3, 1) := dk_6 (dk_at dksX4_gotData_0 1 rfl rfl)
theorem dX4_gotData_2 : decode cX4_gotData 2 = .ok (.iaload, 1) := dk_46 (dk_at dksX4_gotData_0 2 rfl rfl)
theorem dX4_gotData_3 : decode cX4_gotData 3 = .ok (.istore_n 3, 1) := dk_62 (dk_at dksX4_gotData_0 3 rfl rfl)
theorem dX4_gotData_4 : decode cX4_gotData 4 = .ok (.aload_n 2, 1) := dk_44 (dk_at dksX4_gotData_0 4 rfl rfl)
theorem dX4_gotData_5 : decode cX4_gotData 5 = .ok (.iconst 4, 1) := dk_7 (dk_at dksX4_gotData_0 5 rfl rfl)
theorem dX4_gotData_6 : decode cX4_gotData 6 = .ok (.iaload, 1) := dk_46 (dk_at dksX4_gotData_0 6 rfl rfl)
theorem dX4_gotData_7 : decode cX4_gotData 7 = .ok (.istore 4, 2) := dk_54 4 (dk_at dksX4_gotData_0 7 rfl rfl)
theorem dX4_gotData_9 : decode cX4_gotData 9 = .ok (.aload_n 2, 1) := dk_44 (dk_at dksX4_gotData_0 9 rfl rfl)
theorem dX4_gotData_10 : decode cX4_gotData 10 = .ok (.iconst 5, 1) := dk_8 (dk_at dksX4_gotData_0 10 rfl rfl)
theorem dX4_gotData_11 : decode cX4_gotData 11 = .ok (.iaload, 1) := dk_46 (dk_at dksX4_gotData_0 11 rfl rfl)
theorem dX4_gotData_12 : decode cX4_gotData 12 = .ok (.istore 5, 2) := dk_54 5 (dk_at dksX4_gotData_0 12 rfl rfl)
theorem dX4_gotData_14 : decode cX4_gotData 14 = .ok (.aload_n 2, 1) := dk_44 (dk_at dksX4_gotData_0 14 rfl rfl)
theorem dX4_gotData_15 : decode cX4_gotData 15 = .ok (.bipush 6, 2) := dk_16 6 (dk_at dksX4_gotData_0 15 rfl rfl)
theorem dX4_gotData_17 : decode cX4_gotData 17 = .ok (.iaload, 1) := dk_46 (dk_at dksX4_gotData_0 17 rfl rfl)
theorem dX4_gotData_18 : decode cX4_gotData 18 = .ok (.istore 6, 2) := dk_54 6 (dk_at dksX4_gotData_0 18 rfl rfl)
theorem dX4_gotData_20 : decode cX4_gotData 20 = .ok (.aload_n 2, 1) := dk_44 (dk_at dksX4_gotData_0 20 rfl rfl)
theorem dX4_gotData_21 : decode cX4_gotData 21 = .ok (.bipush 7, 2) := dk_16 7 (dk_at dksX4_gotData_0 21 rfl rfl)
theorem dX4_gotData_23 : decode cX4_gotData 23 = .ok (.iaload, 1) := dk_46 (dk_at dksX4_gotData_0 23 rfl rfl)
theorem dX4_gotData_24 : decode cX4_gotData 24 = .ok (.istore 7, 2) := dk_54 7 (dk_at dksX4_gotData_1 0 rfl rfl)
theorem dX4_gotData_26 : decode cX4_gotData 26 = .ok (.iconst (-1), 1) := dk_2 (dk_at dksX4_gotData_1 2 rfl rfl)
theorem dX4_gotData_27 : decode cX4_gotData 27 = .ok (.istore 8, 2) := dk_54 8 (dk_at dksX4_gotData_1 3 rfl rfl)
theorem dX4_gotData_29 : decode cX4_gotData 29 = .ok (.iconst (-1), 1) := dk_2 (dk_at dksX4_gotData_1 5 rfl rfl)
theorem dX4_gotData_30 : decode cX4_gotData 30 = .ok (.istore 9, 2) := dk_54 9 (dk_at dksX4_gotData_1 6 rfl rfl)
theorem dX4_gotData_32 : decode cX4_gotData 32 = .ok (.iconst 0, 1) := dk_3 (dk_at dksX4_gotData_1 8 rfl rfl)
theorem dX4_gotData_33 : decode cX4_gotData 33 = .ok (.istore 10, 2) := dk_54 10 (dk_at dksX4_gotData_1 9 rfl rfl)
theorem dX4_gotData_35 : decode cX4_gotData 35 = .ok (.iload 10, 2) := dk_21 10 (dk_at dksX4_gotData_1 11 rfl rfl)
theorem dX4_gotData_37 : decode cX4_gotData 37 = .ok (.iconst 3, 1) := dk_6 (dk_at dksX4_gotData_1 13 rfl rfl)
theorem dX4_gotData_38 : decode cX4_gotData 38 = .ok (.if_icmp .ge 68, 3) := dk_162 0 68 (dk_at dksX4_gotData_1 14 rfl rfl)
theorem dX4_gotData_41 : decode cX4_gotData 41 = .ok (.iconst 0, 1) := dk_3 (dk_at dksX4_gotData_1 17 rfl rfl)
theorem dX4_gotData_42 : decode cX4_gotData 42 = .ok (.istore 11, 2) := dk_54 11 (dk_at dksX4_gotData_1 18 rfl rfl)
theorem dX4_gotData_44 : decode cX4_gotData 44 = .ok (.iload 11, 2) := dk_21 11 (dk_at dksX4_gotData_1 20 rfl rfl)
theorem dX4_gotData_46 : decode cX4_gotData 46 = .ok (.iconst 3, 1) := dk_6 (dk_at dksX4_gotData_1 22 rfl rfl)
theorem dX4_gotData_47 : decode cX4_gotData 47 = .ok (.if_icmp .ge 53, 3) := dk_162 0 53 (dk_at dksX4_gotData_2 0 rfl rfl)
theorem dX4_gotData_50 : decode cX4_gotData 50 = .ok (.iload 10, 2) := dk_21 10 (dk_at dksX4_gotData_2 3 rfl rfl)
theorem dX4_gotData_52 : decode cX4_gotData 52 = .ok (.iload_n 1, 1) := dk_27 (dk_at dksX4_gotData_2 5 rfl rfl)
theorem dX4_gotData_53 : decode cX4_gotData 53 = .ok (.if_icmp .eq 41, 3) := dk_159 0 41 (dk_at dksX4_gotData_2 6 rfl rfl)
theorem dX4_gotData_56 : decode cX4_gotData 56 = .ok (.aload_n 0, 1) := dk_42 (dk_at dksX4_gotData_2 9 rfl rfl)
theorem dX4_gotData_57 : decode cX4_gotData 57 = .ok (.iload_n 1, 1) := dk_27 (dk_at dksX4_gotData_2 10 rfl rfl)
theorem dX4_gotData_58 : decode cX4_gotData 58 = .ok (.iload 10, 2) := dk_21 10 (dk_at dksX4_gotData_2 11 rfl rfl)
theorem dX4_gotData_60 : decode cX4_gotData 60 = .ok (.iload 11, 2) := dk_21 11 (dk_at dksX4_gotData_2 13 rfl rfl)
theorem dX4_gotData_62 : decode cX4_gotData 62 = .ok (.invokevirtual 166, 3) := dk_182 0 166 (dk_at dksX4_gotData_2 15 rfl rfl)
theorem dX4_gotData_65 : decode cX4_gotData 65 = .ok (.ifCond .eq 29, 3) := dk_153 0 29 (dk_at dksX4_gotData_2 18 rfl rfl)
theorem dX4_gotData_68 : decode cX4_gotData 68 = .ok (.aload_n 0, 1) := dk_42 (dk_at dksX4_gotData_2 21 rfl rfl)
theorem dX4_gotData_69 : decode cX4_gotData 69 = .ok (.getfield 72, 3) := dk_180 0 72 (dk_at dksX4_gotData_3 0 rfl rfl)
theorem dX4_gotData_72 : decode cX4_gotData 72 = .ok (.iload_n 1, 1) := dk_27 (dk_at dksX4_gotData_3 3 rfl rfl)
theorem dX4_gotData_73 : decode cX4_gotData 73 = .ok (.aaload, 1) := dk_50 (dk_at dksX4_gotData_3 4 rfl rfl)
theorem dX4_gotData_74 : decode cX4_gotData 74 = .ok (.iload 10, 2) := dk_21 10 (dk_at dksX4_gotData_3 5 rfl rfl)
theorem dX4_gotData_76 : decode cX4_gotData 76 = .ok (.aaload, 1) := dk_50 (dk_at dksX4_gotData_3 7 rfl rfl)
theorem dX4_gotData_77 : decode cX4_gotData 77 = .ok (.iload 11, 2) := dk_21 11 (dk_at dksX4_gotData_3 8 rfl rfl)
theorem dX4_gotData_79 : decode cX4_gotData 79 = .ok (.aaload, 1) := dk_50 (dk_at dksX4_gotData_3 10 rfl rfl)
theorem dX4_gotData_80 : decode cX4_gotData 80 = .ok (.iconst 0, 1) := dk_3 (dk_at dksX4_gotData_3 11 rfl rfl)
theorem dX4_gotData_81 : decode cX4_gotData 81 = .ok (.iaload, 1) := dk_46 (dk_at dksX4_gotData_3 12 rfl rfl)
theorem dX4_gotData_82 : decode cX4_gotData 82 = .ok (.iload_n 3, 1) := dk_29 (dk_at dksX4_gotData_3 13 rfl rfl)
theorem dX4_gotData_83 : decode cX4_gotData 83 = .ok (.if_icmp .ne 11, 3) := dk_160 0 11 (dk_at dksX4_gotData_3 14 rfl rfl)
theorem dX4_gotData_86 : decode cX4_gotData 86 = .ok (.iload 10, 2) := dk_21 10 (dk_at dksX4_gotData_3 17 rfl rfl)
theorem dX4_gotData_88 : decode cX4_gotData 88 = .ok (.istore 8, 2) := dk_54 8 (dk_at dksX4_gotData_3 19 rfl rfl)
theorem dX4_gotData_90 : decode cX4_gotData 90 = .ok (.iload 11, 2) := dk_21 11 (dk_at dksX4_gotData_3 21 rfl rfl)
theorem dX4_gotData_92 : decode cX4_gotData 92 = .ok (.istore 9, 2) := dk_54 9 (dk_at dksX4_gotData_4 0 rfl rfl)
theorem dX4_gotData_94 : decode cX4_gotData 94 = .ok (.iinc 11 1, 3) := dk_132 11 1 (dk_at dksX4_gotData_4 2 rfl rfl)
theorem dX4_gotData_97 : decode cX4_gotData 97 = .ok (.goto (-53), 3) := dk_167 255 203 (dk_at dksX4_gotData_4 5 rfl rfl)
theorem dX4_gotData_100 : decode cX4_gotData 100 = .ok (.iinc 10 1, 3) := dk_132 10 1 (dk_at dksX4_gotData_4 8 rfl rfl)
theorem dX4_gotData_103 : decode cX4_gotData 103 = .ok (.goto (-68), 3) := dk_167 255 188 (dk_at dksX4_gotData_4 11 rfl rfl)
theorem dX4_gotData_106 : decode cX4_gotData 106 = .ok (.iload 8, 2) := dk_21 8 (dk_at dksX4_gotData_4 14 rfl rfl)
theorem dX4_gotData_108 : decode cX4_gotData 108 = .ok (.iconst (-1), 1) := dk_2 (dk_at dksX4_gotData_4 16 rfl rfl)
theorem dX4_gotData_109 : decode cX4_gotData 109 = .ok (.if_icmp .ne 5, 3) := dk_160 0 5 (dk_at dksX4_gotData_4 17 rfl rfl)
theorem dX4_gotData_112 : decode cX4_gotData 112 = .ok (.iconst (-1), 1) := dk_2 (dk_at dksX4_gotData_4 20 rfl rfl)
theorem dX4_gotData_113 : decode cX4_gotData 113 = .ok (.ireturn, 1) := dk_172 (dk_at dksX4_gotData_4 21 rfl rfl)
theorem dX4_gotData_114 : decode cX4_gotData 114 = .ok (.aload_n 0, 1) := dk_42 (dk_at dksX4_gotData_4 22 rfl rfl)
theorem dX4_gotData_115 : decode cX4_gotData 115 = .ok (.getfield 72, 3) := dk_180 0 72 (dk_at dksX4_gotData_5 0 rfl rfl)
theorem dX4_gotData_118 : decode cX4_gotData 118 = .ok (.iload_n 1, 1) := dk_27 (dk_at dksX4_gotData_5 3 rfl rfl)
theorem dX4_gotData_119 : decode cX4_gotData 119 = .ok (.aaload, 1) := dk_50 (dk_at dksX4_gotData_5 4 rfl rfl)
theorem dX4_gotData_120 : decode cX4_gotData 120 = .ok (.iload 8, 2) := dk_21 8 (dk_at dksX4_gotData_5 5 rfl rfl)
theorem dX4_gotData_122 : decode cX4_gotData 122 = .ok (.aaload, 1) := dk_50 (dk_at dksX4_gotData_5 7 rfl rfl)
theorem dX4_gotData_123 : decode cX4_gotData 123 = .ok (.iload 9, 2) := dk_21 9 (dk_at dksX4_gotData_5 8 rfl rfl)
theorem dX4_gotData_125 : decode cX4_gotData 125 = .ok (.aaload, 1) := dk_50 (dk_at dksX4_gotData_5 10 rfl rfl)
theorem dX4_gotData_126 : decode cX4_gotData 126 = .ok (.astore 10, 2) := dk_58 10 (dk_at dksX4_gotData_5 11 rfl rfl)
theorem dX4_gotData_128 : decode cX4_gotData 128 = .ok (.aload_n 0, 1) := dk_42 (dk_at dksX4_gotData_5 13 rfl rfl)
theorem dX4_gotData_129 : decode cX4_gotData 129 = .ok (.iload_n 1, 1) := dk_27 (dk_at dksX4_gotData_5 14 rfl rfl)
theorem dX4_gotData_130 : decode cX4_gotData 130 = .ok (.iload 8, 2) := dk_21 8 (dk_at dksX4_gotData_5 15 rfl rfl)
theorem dX4_gotData_132 : decode cX4_gotData 132 = .ok (.iload 9, 2) := dk_21 9 (dk_at dksX4_gotData_5 17 rfl rfl)
theorem dX4_gotData_134 : decode cX4_gotData 134 = .ok (.invokevirtual 170, 3) := dk_182 0 170 (dk_at dksX4_gotData_5 19 rfl rfl)
theorem dX4_gotData_137 : decode cX4_gotData 137 = .ok (.bipush 30, 2) := dk_16 30 (dk_at dksX4_gotData_5 22 rfl rfl)
theorem dX4_gotData_139 : decode cX4_gotData 139 = .ok (.if_icmp .lt 6, 3) := dk_161 0 6 (dk_at dksX4_gotData_6 0 rfl rfl)
theorem dX4_gotData_142 : decode cX4_gotData 142 = .ok (.bipush (-4), 2) := dk_16 252 (dk_at dksX4_gotData_6 3 rfl rfl)
theorem dX4_gotData_144 : decode cX4_gotData 144 = .ok (.ireturn, 1) := dk_172 (dk_at dksX4_gotData_6 5 rfl rfl)
theorem dX4_gotData_145 : decode cX4_gotData 145 = .ok (.aload_n 2, 1) := dk_44 (dk_at dksX4_gotData_6 6 rfl rfl)
theorem dX4_gotData_146 : decode cX4_gotData 146 = .ok (.bipush 8, 2) := dk_16 8 (dk_at dksX4_gotData_6 7 rfl rfl)
theorem dX4_gotData_148 : decode cX4_gotData 148 = .ok (.iaload, 1) := dk_46 (dk_at dksX4_gotData_6 9 rfl rfl)
theorem dX4_gotData_149 : decode cX4_gotData 149 = .ok (.aload 10, 2) := dk_25 10 (dk_at dksX4_gotData_6 10 rfl rfl)
theorem dX4_gotData_151 : decode cX4_gotData 151 = .ok (.iconst 4, 1) := dk_7 (dk_at dksX4_gotData_6 12 rfl rfl)
theorem dX4_gotData_152 : decode cX4_gotData 152 = .ok (.iaload, 1) := dk_46 (dk_at dksX4_gotData_6 13 rfl rfl)
theorem dX4_gotData_153 : decode cX4_gotData 153 = .ok (.bipush 6, 2) := dk_16 6 (dk_at dksX4_gotData_6 14 rfl rfl)
theorem dX4_gotData_155 : decode cX4_gotData 155 = .ok (.newarray .int, 2) := dk_188_10 (dk_at dksX4_gotData_6 16 rfl rfl)
theorem dX4_gotData_157 : decode cX4_gotData 157 = .ok (.dup, 1) := dk_89 (dk_at dksX4_gotData_6 18 rfl rfl)
theorem dX4_gotData_158 : decode cX4_gotData 158 = .ok (.iconst 0, 1) := dk_3 (dk_at dksX4_gotData_6 19 rfl rfl)
theorem dX4_gotData_159 : decode cX4_gotData 159 = .ok (.iconst 4, 1) := dk_7 (dk_at dksX4_gotData_6 20 rfl rfl)
theorem dX4_gotData_160 : decode cX4_gotData 160 = .ok (.iastore, 1) := dk_79 (dk_at dksX4_gotData_6 21 rfl rfl)
theorem dX4_gotData_161 : decode cX4_gotData 161 = .ok (.dup, 1) := dk_89 (dk_at dksX4_gotData_6 22 rfl rfl)
theorem dX4_gotData_162 : decode cX4_gotData 162 = .ok (.iconst 1, 1) := dk_4 (dk_at dksX4_gotData_6 23 rfl rfl)
theorem dX4_gotData_163 : decode cX4_gotData 163 = .ok (.iload_n 3, 1) := dk_29 (dk_at dksX4_gotData_7 0 rfl rfl)
theorem dX4_gotData_164 : decode cX4_gotData 164 = .ok (.iastore, 1) := dk_79 (dk_at dksX4_gotData_7 1 rfl rfl)
theorem dX4_gotData_165 : decode cX4_gotData 165 = .ok (.dup, 1) := dk_89 (dk_at dksX4_gotData_7 2 rfl rfl)
theorem dX4_gotData_166 : decode cX4_gotData 166 = .ok (.iconst 2, 1) := dk_5 (dk_at dksX4_gotData_7 3 rfl rfl)
theorem dX4_gotData_167 : decode cX4_gotData 167 = .ok (.iload 4, 2) := dk_21 4 (dk_at dksX4_gotData_7 4 rfl rfl)
theorem dX4_gotData_169 : decode cX4_gotData 169 = .ok (.iastore, 1) := dk_79 (dk_at dksX4_gotData_7 6 rfl rfl)
theorem dX4_gotData_170 : decode cX4_gotData 170 = .ok (.dup, 1) := dk_89 (dk_at dksX4_gotData_7 7 rfl rfl)
theorem dX4_gotData_171 : decode cX4_gotData 171 = .ok (.iconst 3, 1) := dk_6 (dk_at dksX4_gotData_7 8 rfl rfl)
theorem dX4_gotData_172 : decode cX4_gotData 172 = .ok (.iload 5, 2) := dk_21 5 (dk_at dksX4_gotData_7 9 rfl rfl)
theorem dX4_gotData_174 : decode cX4_gotData 174 = .ok (.iastore, 1) := dk_79 (dk_at dksX4_gotData_7 11 rfl rfl)
theorem dX4_gotData_175 : decode cX4_gotData 175 = .ok (.dup, 1) := dk_89 (dk_at dksX4_gotData_7 12 rfl rfl)
theorem dX4_gotData_176 : decode cX4_gotData 176 = .ok (.iconst 4, 1) := dk_7 (dk_at dksX4_gotData_7 13 rfl rfl)
theorem dX4_gotData_177 : decode cX4_gotData 177 = .ok (.iload 6, 2) := dk_21 6 (dk_at dksX4_gotData_7 14 rfl rfl)
theorem dX4_gotData_179 : decode cX4_gotData 179 = .ok (.iastore, 1) := dk_79 (dk_at dksX4_gotData_7 16 rfl rfl)
theorem dX4_gotData_180 : decode cX4_gotData 180 = .ok (.dup, 1) := dk_89 (dk_at dksX4_gotData_7 17 rfl rfl)
theorem dX4_gotData_181 : decode cX4_gotData 181 = .ok (.iconst 5, 1) := dk_8 (dk_at dksX4_gotData_7 18 rfl rfl)
theorem dX4_gotData_182 : decode cX4_gotData 182 = .ok (.iload 7, 2) := dk_21 7 (dk_at dksX4_gotData_7 19 rfl rfl)
theorem dX4_gotData_184 : decode cX4_gotData 184 = .ok (.iastore, 1) := dk_79 (dk_at dksX4_gotData_7 21 rfl rfl)
theorem dX4_gotData_185 : decode cX4_gotData 185 = .ok (.invokestatic 154, 3) := dk_184 0 154 (dk_at dksX4_gotData_8 0 rfl rfl)
theorem dX4_gotData_188 : decode cX4_gotData 188 = .ok (.if_icmp .eq 6, 3) := dk_159 0 6 (dk_at dksX4_gotData_8 3 rfl rfl)
theorem dX4_gotData_191 : decode cX4_gotData 191 = .ok (.bipush (-2), 2) := dk_16 254 (dk_at dksX4_gotData_8 6 rfl rfl)
theorem dX4_gotData_193 : decode cX4_gotData 193 = .ok (.ireturn, 1) := dk_172 (dk_at dksX4_gotData_8 8 rfl rfl)
theorem dX4_gotData_194 : decode cX4_gotData 194 = .ok (.iload 4, 2) := dk_21 4 (dk_at dksX4_gotData_8 9 rfl rfl)
theorem dX4_gotData_196 : decode cX4_gotData 196 = .ok (.i2l, 1) := dk_133 (dk_at dksX4_gotData_8 11 rfl rfl)
theorem dX4_gotData_197 : decode cX4_gotData 197 = .ok (.lconst 0, 1) := dk_9 (dk_at dksX4_gotData_8 12 rfl rfl)
theorem dX4_gotData_198 : decode cX4_gotData 198 = .ok (.ldc2_w 194, 3) := dk_20 0 194 (dk_at dksX4_gotData_8 13 rfl rfl)
theorem dX4_gotData_201 : decode cX4_gotData 201 = .ok (.invokestatic 91, 3) := dk_184 0 91 (dk_at dksX4_gotData_8 16 rfl rfl)
theorem dX4_gotData_204 : decode cX4_gotData 204 = .ok (.ifCond .eq 21, 3) := dk_153 0 21 (dk_at dksX4_gotData_8 19 rfl rfl)
theorem dX4_gotData_207 : decode cX4_gotData 207 = .ok (.aload_n 0, 1) := dk_42 (dk_at dksX4_gotData_8 22 rfl rfl)
theorem dX4_gotData_208 : decode cX4_gotData 208 = .ok (.getfield 77, 3) := dk_180 0 77 (dk_at dksX4_gotData_9 0 rfl rfl)
theorem dX4_gotData_211 : decode cX4_gotData 211 = .ok (.iload_n 1, 1) := dk_27 (dk_at dksX4_gotData_9 3 rfl rfl)
theorem dX4_gotData_212 : decode cX4_gotData 212 = .ok (.aaload, 1) := dk_50 (dk_at dksX4_gotData_9 4 rfl rfl)
theorem dX4_gotData_213 : decode cX4_gotData 213 = .ok (.iload 8, 2) := dk_21 8 (dk_at dksX4_gotData_9 5 rfl rfl)
theorem dX4_gotData_215 : decode cX4_gotData 215 = .ok (.aaload, 1) := dk_50 (dk_at dksX4_gotData_9 7 rfl rfl)
theorem dX4_gotData_216 : decode cX4_gotData 216 = .ok (.iload 9, 2) := dk_21 9 (dk_at dksX4_gotData_9 8 rfl rfl)
theorem dX4_gotData_218 : decode cX4_gotData 218 = .ok (.aaload, 1) := dk_50 (dk_at dksX4_gotData_9 10 rfl rfl)
theorem dX4_gotData_219 : decode cX4_gotData 219 = .ok (.iload 4, 2) := dk_21 4 (dk_at dksX4_gotData_9 11 rfl rfl)
theorem dX4_gotData_221 : decode cX4_gotData 221 = .ok (.baload, 1) := dk_51 (dk_at dksX4_gotData_9 13 rfl rfl)
theorem dX4_gotData_222 : decode cX4_gotData 222 = .ok (.ifCond .ne 24, 3) := dk_154 0 24 (dk_at dksX4_gotData_9 14 rfl rfl)
theorem dX4_gotData_225 : decode cX4_gotData 225 = .ok (.aload 10, 2) := dk_25 10 (dk_at dksX4_gotData_9 17 rfl rfl)
theorem dX4_gotData_227 : decode cX4_gotData 227 = .ok (.bipush 8, 2) := dk_16 8 (dk_at dksX4_gotData_9 19 rfl rfl)
theorem dX4_gotData_229 : decode cX4_gotData 229 = .ok (.iaload, 1) := dk_46 (dk_at dksX4_gotData_9 21 rfl rfl)
theorem dX4_gotData_230 : decode cX4_gotData 230 = .ok (.ifCond .le 19, 3) := dk_158 0 19 (dk_at dksX4_gotData_10 0 rfl rfl)
theorem dX4_gotData_233 : decode cX4_gotData 233 = .ok (.iload 4, 2) := dk_21 4 (dk_at dksX4_gotData_10 3 rfl rfl)
theorem dX4_gotData_235 : decode cX4_gotData 235 = .ok (.aload 10, 2) := dk_25 10 (dk_at dksX4_gotData_10 5 rfl rfl)
theorem dX4_gotData_237 : decode cX4_gotData 237 = .ok (.bipush 7, 2) := dk_16 7 (dk_at dksX4_gotData_10 7 rfl rfl)
theorem dX4_gotData_239 : decode cX4_gotData 239 = .ok (.iaload, 1) := dk_46 (dk_at dksX4_gotData_10 9 rfl rfl)
theorem dX4_gotData_240 : decode cX4_gotData 240 = .ok (.bipush 16, 2) := dk_16 16 (dk_at dksX4_gotData_10 10 rfl rfl)
theorem dX4_gotData_242 : decode cX4_gotData 242 = .ok (.isub, 1) := dk_100 (dk_at dksX4_gotData_10 12 rfl rfl)
theorem dX4_gotData_243 : decode cX4_gotData 243 = .ok (.if_icmp .gt 6, 3) := dk_163 0 6 (dk_at dksX4_gotData_10 13 rfl rfl)
theorem dX4_gotData_246 : decode cX4_gotData 246 = .ok (.bipush (-3), 2) := dk_16 253 (dk_at dksX4_gotData_10 16 rfl rfl)
theorem dX4_gotData_248 : decode cX4_gotData 248 = .ok (.ireturn, 1) := dk_172 (dk_at dksX4_gotData_10 18 rfl rfl)
theorem dX4_gotData_249 : decode cX4_gotData 249 = .ok (.iload 4, 2) := dk_21 4 (dk_at dksX4_gotData_10 19 rfl rfl)
theorem dX4_gotData_251 : decode cX4_gotData 251 = .ok (.i2l, 1) := dk_133 (dk_at dksX4_gotData_10 21 rfl rfl)
theorem dX4_gotData_252 : decode cX4_gotData 252 = .ok (.lconst 0, 1) := dk_9 (dk_at dksX4_gotData_10 22 rfl rfl)
theorem dX4_gotData_253 : decode cX4_gotData 253 = .ok (.ldc2_w 194, 3) := dk_20 0 194 (dk_at dksX4_gotData_11 0 rfl rfl)
theorem dX4_gotData_256 : decode cX4_gotData 256 = .ok (.invokestatic 91, 3) := dk_184 0 91 (dk_at dksX4_gotData_11 3 rfl rfl)
theorem dX4_gotData_259 : decode cX4_gotData 259 = .ok (.ifCond .eq 19, 3) := dk_153 0 19 (dk_at dksX4_gotData_11 6 rfl rfl)
theorem dX4_gotData_262 : decode cX4_gotData 262 = .ok (.aload_n 0, 1) := dk_42 (dk_at dksX4_gotData_11 9 rfl rfl)
theorem dX4_gotData_263 : decode cX4_gotData 263 = .ok (.getfield 77, 3) := dk_180 0 77 (dk_at dksX4_gotData_11 10 rfl rfl)
theorem dX4_gotData_266 : decode cX4_gotData 266 = .ok (.iload_n 1, 1) := dk_27 (dk_at dksX4_gotData_11 13 rfl rfl)
theorem dX4_gotData_267 : decode cX4_gotData 267 = .ok (.aaload, 1) := dk_50 (dk_at dksX4_gotData_11 14 rfl rfl)
theorem dX4_gotData_268 : decode cX4_gotData 268 = .ok (.iload 8, 2) := dk_21 8 (dk_at dksX4_gotData_11 15 rfl rfl)
theorem dX4_gotData_270 : decode cX4_gotData 270 = .ok (.aaload, 1) := dk_50 (dk_at dksX4_gotData_11 17 rfl rfl)
theorem dX4_gotData_271 : decode cX4_gotData 271 = .ok (.iload 9, 2) := dk_21 9 (dk_at dksX4_gotData_11 18 rfl rfl)
theorem dX4_gotData_273 : decode cX4_gotData 273 = .ok (.aaload, 1) := dk_50 (dk_at dksX4_gotData_11 20 rfl rfl)
theorem dX4_gotData_274 : decode cX4_gotData 274 = .ok (.iload 4, 2) := dk_21 4 (dk_at dksX4_gotData_11 21 rfl rfl)
theorem dX4_gotData_276 : decode cX4_gotData 276 = .ok (.iconst 1, 1) := dk_4 (dk_at dksX4_gotData_11 23 rfl rfl)
theorem dX4_gotData_277 : decode cX4_gotData 277 = .ok (.bastore, 1) := dk_84 (dk_at dksX4_gotData_12 0 rfl rfl)
theorem dX4_gotData_278 : decode cX4_gotData 278 = .ok (.aload 10, 2) := dk_25 10 (dk_at dksX4_gotData_12 1 rfl rfl)
theorem dX4_gotData_280 : decode cX4_gotData 280 = .ok (.bipush 7, 2) := dk_16 7 (dk_at dksX4_gotData_12 3 rfl rfl)
theorem dX4_gotData_282 : decode cX4_gotData 282 = .ok (.aload 10, 2) := dk_25 10 (dk_at dksX4_gotData_12 5 rfl rfl)
theorem dX4_gotData_284 : decode cX4_gotData 284 = .ok (.bipush 7, 2) := dk_16 7 (dk_at dksX4_gotData_12 7 rfl rfl)
theorem dX4_gotData_286 : decode cX4_gotData 286 = .ok (.iaload, 1) := dk_46 (dk_at dksX4_gotData_12 9 rfl rfl)
theorem dX4_gotData_287 : decode cX4_gotData 287 = .ok (.iload 4, 2) := dk_21 4 (dk_at dksX4_gotData_12 10 rfl rfl)
theorem dX4_gotData_289 : decode cX4_gotData 289 = .ok (.invokestatic 145, 3) := dk_184 0 145 (dk_at dksX4_gotData_12 12 rfl rfl)
theorem dX4_gotData_292 : decode cX4_gotData 292 = .ok (.iastore, 1) := dk_79 (dk_at dksX4_gotData_12 15 rfl rfl)
theorem dX4_gotData_293 : decode cX4_gotData 293 = .ok (.aload 10, 2) := dk_25 10 (dk_at dksX4_gotData_12 16 rfl rfl)
theorem dX4_gotData_295 : decode cX4_gotData 295 = .ok (.bipush 8, 2) := dk_16 8 (dk_at dksX4_gotData_12 18 rfl rfl)
theorem dX4_gotData_297 : decode cX4_gotData 297 = .ok (.dup2, 1) := dk_92 (dk_at dksX4_gotData_12 20 rfl rfl)
theorem dX4_gotData_298 : decode cX4_gotData 298 = .ok (.iaload, 1) := dk_46 (dk_at dksX4_gotData_12 21 rfl rfl)
theorem dX4_gotData_299 : decode cX4_gotData 299 = .ok (.iconst 1, 1) := dk_4 (dk_at dksX4_gotData_12 22 rfl rfl)
theorem dX4_gotData_300 : decode cX4_gotData 300 = .ok (.iadd, 1) := dk_96 (dk_at dksX4_gotData_12 23 rfl rfl)
theorem dX4_gotData_301 : decode cX4_gotData 301 = .ok (.iastore, 1) := dk_79 (dk_at dksX4_gotData_13 0 rfl rfl)
theorem dX4_gotData_302 : decode cX4_gotData 302 = .ok (.aload_n 0, 1) := dk_42 (dk_at dksX4_gotData_13 1 rfl rfl)
theorem dX4_gotData_303 : decode cX4_gotData 303 = .ok (.getfield 37, 3) := dk_180 0 37 (dk_at dksX4_gotData_13 2 rfl rfl)
theorem dX4_gotData_306 : decode cX4_gotData 306 = .ok (.iload_n 1, 1) := dk_27 (dk_at dksX4_gotData_13 5 rfl rfl)
theorem dX4_gotData_307 : decode cX4_gotData 307 = .ok (.aaload, 1) := dk_50 (dk_at dksX4_gotData_13 6 rfl rfl)
theorem dX4_gotData_308 : decode cX4_gotData 308 = .ok (.iload 8, 2) := dk_21 8 (dk_at dksX4_gotData_13 7 rfl rfl)
theorem dX4_gotData_310 : decode cX4_gotData 310 = .ok (.aload_n 2, 1) := dk_44 (dk_at dksX4_gotData_13 9 rfl rfl)
theorem dX4_gotData_311 : decode cX4_gotData 311 = .ok (.iconst 0, 1) := dk_3 (dk_at dksX4_gotData_13 10 rfl rfl)
theorem dX4_gotData_312 : decode cX4_gotData 312 = .ok (.iaload, 1) := dk_46 (dk_at dksX4_gotData_13 11 rfl rfl)
theorem dX4_gotData_313 : decode cX4_gotData 313 = .ok (.iastore, 1) := dk_79 (dk_at dksX4_gotData_13 12 rfl rfl)
theorem dX4_gotData_314 : decode cX4_gotData 314 = .ok (.iload 9, 2) := dk_21 9 (dk_at dksX4_gotData_13 13 rfl rfl)
theorem dX4_gotData_316 : decode cX4_gotData 316 = .ok (.iconst 2, 1) := dk_5 (dk_at dksX4_gotData_13 15 rfl rfl)
theorem dX4_gotData_317 : decode cX4_gotData 317 = .ok (.if_icmp .ne 82, 3) := dk_160 0 82 (dk_at dksX4_gotData_13 16 rfl rfl)
theorem dX4_gotData_320 : decode cX4_gotData 320 = .ok (.aload_n 0, 1) := dk_42 (dk_at dksX4_gotData_13 19 rfl rfl)
theorem dX4_gotData_321 : decode cX4_gotData 321 = .ok (.iload_n 1, 1) := dk_27 (dk_at dksX4_gotData_13 20 rfl rfl)
theorem dX4_gotData_322 : decode cX4_gotData 322 = .ok (.iload 8, 2) := dk_21 8 (dk_at dksX4_gotData_13 21 rfl rfl)
theorem dX4_gotData_324 : decode cX4_gotData 324 = .ok (.invokevirtual 187, 3) := dk_182 0 187 (dk_at dksX4_gotData_14 0 rfl rfl)
theorem dX4_gotData_327 : decode cX4_gotData 327 = .ok (.aload_n 0, 1) := dk_42 (dk_at dksX4_gotData_14 3 rfl rfl)
theorem dX4_gotData_328 : decode cX4_gotData 328 = .ok (.getfield 72, 3) := dk_180 0 72 (dk_at dksX4_gotData_14 4 rfl rfl)
theorem dX4_gotData_331 : decode cX4_gotData 331 = .ok (.iload_n 1, 1) := dk_27 (dk_at dksX4_gotData_14 7 rfl rfl)
theorem dX4_gotData_332 : decode cX4_gotData 332 = .ok (.aaload, 1) := dk_50 (dk_at dksX4_gotData_14 8 rfl rfl)
theorem dX4_gotData_333 : decode cX4_gotData 333 = .ok (.iload 8, 2) := dk_21 8 (dk_at dksX4_gotData_14 9 rfl rfl)
theorem dX4_gotData_335 : decode cX4_gotData 335 = .ok (.aaload, 1) := dk_50 (dk_at dksX4_gotData_14 11 rfl rfl)
theorem dX4_gotData_336 : decode cX4_gotData 336 = .ok (.iconst 1, 1) := dk_4 (dk_at dksX4_gotData_14 12 rfl rfl)
theorem dX4_gotData_337 : decode cX4_gotData 337 = .ok (.aload 10, 2) := dk_25 10 (dk_at dksX4_gotData_14 13 rfl rfl)
theorem dX4_gotData_339 : decode cX4_gotData 339 = .ok (.aastore, 1) := dk_83 (dk_at dksX4_gotData_14 15 rfl rfl)
theorem dX4_gotData_340 : decode cX4_gotData 340 = .ok (.aload_n 0, 1) := dk_42 (dk_at dksX4_gotData_14 16 rfl rfl)
theorem dX4_gotData_341 : decode cX4_gotData 341 = .ok (.getfield 77, 3) := dk_180 0 77 (dk_at dksX4_gotData_14 17 rfl rfl)
theorem dX4_gotData_344 : decode cX4_gotData 344 = .ok (.iload_n 1, 1) := dk_27 (dk_at dksX4_gotData_14 20 rfl rfl)
theorem dX4_gotData_345 : decode cX4_gotData 345 = .ok (.aaload, 1) := dk_50 (dk_at dksX4_gotData_14 21 rfl rfl)
theorem dX4_gotData_346 : decode cX4_gotData 346 = .ok (.iload 8, 2) := dk_21 8 (dk_at dksX4_gotData_14 22 rfl rfl)
theorem dX4_gotData_348 : decode cX4_gotData 348 = .ok (.aaload, 1) := dk_50 (dk_at dksX4_gotData_15 0 rfl rfl)
theorem dX4_gotData_349 : decode cX4_gotData 349 = .ok (.iconst 1, 1) := dk_4 (dk_at dksX4_gotData_15 1 rfl rfl)
theorem dX4_gotData_350 : decode cX4_gotData 350 = .ok (.aload_n 0, 1) := dk_42 (dk_at dksX4_gotData_15 2 rfl rfl)
theorem dX4_gotData_351 : decode cX4_gotData 351 = .ok (.getfield 77, 3) := dk_180 0 77 (dk_at dksX4_gotData_15 3 rfl rfl)
theorem dX4_gotData_354 : decode cX4_gotData 354 = .ok (.iload_n 1, 1) := dk_27 (dk_at dksX4_gotData_15 6 rfl rfl)
theorem dX4_gotData_355 : decode cX4_gotData 355 = .ok (.aaload, 1) := dk_50 (dk_at dksX4_gotData_15 7 rfl rfl)
theorem dX4_gotData_356 : decode cX4_gotData 356 = .ok (.iload 8, 2) := dk_21 8 (dk_at dksX4_gotData_15 8 rfl rfl)
theorem dX4_gotData_358 : decode cX4_gotData 358 = .ok (.aaload, 1) := dk_50 (dk_at dksX4_gotData_15 10 rfl rfl)
theorem dX4_gotData_359 : decode cX4_gotData 359 = .ok (.iconst 2, 1) := dk_5 (dk_at dksX4_gotData_15 11 rfl rfl)
theorem dX4_gotData_360 : decode cX4_gotData 360 = .ok (.aaload, 1) := dk_50 (dk_at dksX4_gotData_15 12 rfl rfl)
theorem dX4_gotData_361 : decode cX4_gotData 361 = .ok (.aastore, 1) := dk_83 (dk_at dksX4_gotData_15 13 rfl rfl)
theorem dX4_gotData_362 : decode cX4_gotData 362 = .ok (.aload_n 0, 1) := dk_42 (dk_at dksX4_gotData_15 14 rfl rfl)
theorem dX4_gotData_363 : decode cX4_gotData 363 = .ok (.getfield 72, 3) := dk_180 0 72 (dk_at dksX4_gotData_15 15 rfl rfl)
theorem dX4_gotData_366 : decode cX4_gotData 366 = .ok (.iload_n 1, 1) := dk_27 (dk_at dksX4_gotData_15 18 rfl rfl)
theorem dX4_gotData_367 : decode cX4_gotData 367 = .ok (.aaload, 1) := dk_50 (dk_at dksX4_gotData_15 19 rfl rfl)
theorem dX4_gotData_368 : decode cX4_gotData 368 = .ok (.iload 8, 2) := dk_21 8 (dk_at dksX4_gotData_15 20 rfl rfl)
theorem dX4_gotData_370 : decode cX4_gotData 370 = .ok (.aaload, 1) := dk_50 (dk_at dksX4_gotData_15 22 rfl rfl)
theorem dX4_gotData_371 : decode cX4_gotData 371 = .ok (.iconst 2, 1) := dk_5 (dk_at dksX4_gotData_15 23 rfl rfl)
theorem dX4_gotData_372 : decode cX4_gotData 372 = .ok (.bipush 9, 2) := dk_16 9 (dk_at dksX4_gotData_16 0 rfl rfl)
theorem dX4_gotData_374 : decode cX4_gotData 374 = .ok (.newarray .int, 2) := dk_188_10 (dk_at dksX4_gotData_16 2 rfl rfl)
theorem dX4_gotData_376 : decode cX4_gotData 376 = .ok (.aastore, 1) := dk_83 (dk_at dksX4_gotData_16 4 rfl rfl)
theorem dX4_gotData_377 : decode cX4_gotData 377 = .ok (.aload_n 0, 1) := dk_42 (dk_at dksX4_gotData_16 5 rfl rfl)
theorem dX4_gotData_378 : decode cX4_gotData 378 = .ok (.getfield 77, 3) := dk_180 0 77 (dk_at dksX4_gotData_16 6 rfl rfl)
theorem dX4_gotData_381 : decode cX4_gotData 381 = .ok (.iload_n 1, 1) := dk_27 (dk_at dksX4_gotData_16 9 rfl rfl)
theorem dX4_gotData_382 : decode cX4_gotData 382 = .ok (.aaload, 1) := dk_50 (dk_at dksX4_gotData_16 10 rfl rfl)
theorem dX4_gotData_383 : decode cX4_gotData 383 = .ok (.iload 8, 2) := dk_21 8 (dk_at dksX4_gotData_16 11 rfl rfl)
theorem dX4_gotData_385 : decode cX4_gotData 385 = .ok (.aaload, 1) := dk_50 (dk_at dksX4_gotData_16 13 rfl rfl)
theorem dX4_gotData_386 : decode cX4_gotData 386 = .ok (.iconst 2, 1) := dk_5 (dk_at dksX4_gotData_16 14 rfl rfl)
theorem dX4_gotData_387 : decode cX4_gotData 387 = .ok (.bipush 40, 2) := dk_16 40 (dk_at dksX4_gotData_16 15 rfl rfl)
theorem dX4_gotData_389 : decode cX4_gotData 389 = .ok (.newarray .boolean, 2) := dk_188_4 (dk_at dksX4_gotData_16 17 rfl rfl)
theorem dX4_gotData_391 : decode cX4_gotData 391 = .ok (.aastore, 1) := dk_83 (dk_at dksX4_gotData_16 19 rfl rfl)
theorem dX4_gotData_392 : decode cX4_gotData 392 = .ok (.aload_n 0, 1) := dk_42 (dk_at dksX4_gotData_16 20 rfl rfl)
theorem dX4_gotData_393 : decode cX4_gotData 393 = .ok (.iload_n 1, 1) := dk_27 (dk_at dksX4_gotData_16 21 rfl rfl)
theorem dX4_gotData_394 : decode cX4_gotData 394 = .ok (.iload 8, 2) := dk_21 8 (dk_at dksX4_gotData_16 22 rfl rfl)
theorem dX4_gotData_396 : decode cX4_gotData 396 = .ok (.invokevirtual 191, 3) := dk_182 0 191 (dk_at dksX4_gotData_17 0 rfl rfl)
theorem dX4_gotData_399 : decode cX4_gotData 399 = .ok (.iload 5, 2) := dk_21 5 (dk_at dksX4_gotData_17 3 rfl rfl)
theorem dX4_gotData_401 : decode cX4_gotData 401 = .ok (.iconst (-1), 1) := dk_2 (dk_at dksX4_gotData_17 5 rfl rfl)
theorem dX4_gotData_402 : decode cX4_gotData 402 = .ok (.if_icmp .ne 17, 3) := dk_160 0 17 (dk_at dksX4_gotData_17 6 rfl rfl)
theorem dX4_gotData_405 : decode cX4_gotData 405 = .ok (.iload 6, 2) := dk_21 6 (dk_at dksX4_gotData_17 9 rfl rfl)
theorem dX4_gotData_407 : decode cX4_gotData 407 = .ok (.iconst (-1), 1) := dk_2 (dk_at dksX4_gotData_17 11 rfl rfl)
theorem dX4_gotData_408 : decode cX4_gotData 408 = .ok (.if_icmp .ne 11, 3) := dk_160 0 11 (dk_at dksX4_gotData_17 12 rfl rfl)
theorem dX4_gotData_411 : decode cX4_gotData 411 = .ok (.iload 7, 2) := dk_21 7 (dk_at dksX4_gotData_17 15 rfl rfl)
theorem dX4_gotData_413 : decode cX4_gotData 413 = .ok (.iconst (-1), 1) := dk_2 (dk_at dksX4_gotData_17 17 rfl rfl)
theorem dX4_gotData_414 : decode cX4_gotData 414 = .ok (.if_icmp .ne 5, 3) := dk_160 0 5 (dk_at dksX4_gotData_17 18 rfl rfl)
theorem dX4_gotData_417 : decode cX4_gotData 417 = .ok (.iconst 2, 1) := dk_5 (dk_at dksX4_gotData_17 21 rfl rfl)
theorem dX4_gotData_418 : decode cX4_gotData 418 = .ok (.ireturn, 1) := dk_172 (dk_at dksX4_gotData_17 22 rfl rfl)
theorem dX4_gotData_419 : decode cX4_gotData 419 = .ok (.aload_n 0, 1) := dk_42 (dk_at dksX4_gotData_17 23 rfl rfl)
theorem dX4_gotData_420 : decode cX4_gotData 420 = .ok (.iload_n 1, 1) := dk_27 (dk_at dksX4_gotData_18 0 rfl rfl)
theorem dX4_gotData_421 : decode cX4_gotData 421 = .ok (.iload 5, 2) := dk_21 5 (dk_at dksX4_gotData_18 1 rfl rfl)
theorem dX4_gotData_423 : decode cX4_gotData 423 = .ok (.invokevirtual 196, 3) := dk_182 0 196 (dk_at dksX4_gotData_18 3 rfl rfl)
theorem dX4_gotData_426 : decode cX4_gotData 426 = .ok (.iload 8, 2) := dk_21 8 (dk_at dksX4_gotData_18 6 rfl rfl)
theorem dX4_gotData_428 : decode cX4_gotData 428 = .ok (.if_icmp .eq 6, 3) := dk_159 0 6 (dk_at dksX4_gotData_18 8 rfl rfl)
theorem dX4_gotData_431 : decode cX4_gotData 431 = .ok (.bipush (-5), 2) := dk_16 251 (dk_at dksX4_gotData_18 11 rfl rfl)
theorem dX4_gotData_433 : decode cX4_gotData 433 = .ok (.ireturn, 1) := dk_172 (dk_at dksX4_gotData_18 13 rfl rfl)
theorem dX4_gotData_434 : decode cX4_gotData 434 = .ok (.aload_n 0, 1) := dk_42 (dk_at dksX4_gotData_18 14 rfl rfl)
theorem dX4_gotData_435 : decode cX4_gotData 435 = .ok (.getfield 83, 3) := dk_180 0 83 (dk_at dksX4_gotData_18 15 rfl rfl)
theorem dX4_gotData_438 : decode cX4_gotData 438 = .ok (.arraylength, 1) := dk_190 (dk_at dksX4_gotData_18 18 rfl rfl)
theorem dX4_gotData_439 : decode cX4_gotData 439 = .ok (.iconst 1, 1) := dk_4 (dk_at dksX4_gotData_18 19 rfl rfl)
theorem dX4_gotData_440 : decode cX4_gotData 440 = .ok (.iadd, 1) := dk_96 (dk_at dksX4_gotData_18 20 rfl rfl)
theorem dX4_gotData_441 : decode cX4_gotData 441 = .ok (.anewarray 199, 3) := dk_189 0 199 (dk_at dksX4_gotData_18 21 rfl rfl)
theorem dX4_gotData_444 : decode cX4_gotData 444 = .ok (.astore 11, 2) := dk_58 11 (dk_at dksX4_gotData_19 0 rfl rfl)
theorem dX4_gotData_446 : decode cX4_gotData 446 = .ok (.iconst 0, 1) := dk_3 (dk_at dksX4_gotData_19 2 rfl rfl)
theorem dX4_gotData_447 : decode cX4_gotData 447 = .ok (.istore 12, 2) := dk_54 12 (dk_at dksX4_gotData_19 3 rfl rfl)
theorem dX4_gotData_449 : decode cX4_gotData 449 = .ok (.iload 12, 2) := dk_21 12 (dk_at dksX4_gotData_19 5 rfl rfl)
theorem dX4_gotData_451 : decode cX4_gotData 451 = .ok (.aload_n 0, 1) := dk_42 (dk_at dksX4_gotData_19 7 rfl rfl)
theorem dX4_gotData_452 : decode cX4_gotData 452 = .ok (.getfield 83, 3) := dk_180 0 83 (dk_at dksX4_gotData_19 8 rfl rfl)
theorem dX4_gotData_455 : decode cX4_gotData 455 = .ok (.arraylength, 1) := dk_190 (dk_at dksX4_gotData_19 11 rfl rfl)
theorem dX4_gotData_456 : decode cX4_gotData 456 = .ok (.if_icmp .ge 21, 3) := dk_162 0 21 (dk_at dksX4_gotData_19 12 rfl rfl)
theorem dX4_gotData_459 : decode cX4_gotData 459 = .ok (.aload 11, 2) := dk_25 11 (dk_at dksX4_gotData_19 15 rfl rfl)
theorem dX4_gotData_461 : decode cX4_gotData 461 = .ok (.iload 12, 2) := dk_21 12 (dk_at dksX4_gotData_19 17 rfl rfl)
theorem dX4_gotData_463 : decode cX4_gotData 463 = .ok (.aload_n 0, 1) := dk_42 (dk_at dksX4_gotData_19 19 rfl rfl)
theorem dX4_gotData_464 : decode cX4_gotData 464 = .ok (.getfield 83, 3) := dk_180 0 83 (dk_at dksX4_gotData_19 20 rfl rfl)
theorem dX4_gotData_467 : decode cX4_gotData 467 = .ok (.iload 12, 2) := dk_21 12 (dk_at dksX4_gotData_20 0 rfl rfl)
theorem dX4_gotData_469 : decode cX4_gotData 469 = .ok (.aaload, 1) := dk_50 (dk_at dksX4_gotData_20 2 rfl rfl)
theorem dX4_gotData_470 : decode cX4_gotData 470 = .ok (.aastore, 1) := dk_83 (dk_at dksX4_gotData_20 3 rfl rfl)
theorem dX4_gotData_471 : decode cX4_gotData 471 = .ok (.iinc 12 1, 3) := dk_132 12 1 (dk_at dksX4_gotData_20 4 rfl rfl)
theorem dX4_gotData_474 : decode cX4_gotData 474 = .ok (.goto (-25), 3) := dk_167 255 231 (dk_at dksX4_gotData_20 7 rfl rfl)
theorem dX4_gotData_477 : decode cX4_gotData 477 = .ok (.aload 11, 2) := dk_25 11 (dk_at dksX4_gotData_20 10 rfl rfl)
theorem dX4_gotData_479 : decode cX4_gotData 479 = .ok (.aload_n 0, 1) := dk_42 (dk_at dksX4_gotData_20 12 rfl rfl)
theorem dX4_gotData_480 : decode cX4_gotData 480 = .ok (.getfield 83, 3) := dk_180 0 83 (dk_at dksX4_gotData_20 13 rfl rfl)
theorem dX4_gotData_483 : decode cX4_gotData 483 = .ok (.arraylength, 1) := dk_190 (dk_at dksX4_gotData_20 16 rfl rfl)
theorem dX4_gotData_484 : decode cX4_gotData 484 = .ok (.iconst 5, 1) := dk_8 (dk_at dksX4_gotData_20 17 rfl rfl)
theorem dX4_gotData_485 : decode cX4_gotData 485 = .ok (.newarray .int, 2) := dk_188_10 (dk_at dksX4_gotData_20 18 rfl rfl)
theorem dX4_gotData_487 : decode cX4_gotData 487 = .ok (.dup, 1) := dk_89 (dk_at dksX4_gotData_20 20 rfl rfl)
theorem dX4_gotData_488 : decode cX4_gotData 488 = .ok (.iconst 0, 1) := dk_3 (dk_at dksX4_gotData_20 21 rfl rfl)
theorem dX4_gotData_489 : decode cX4_gotData 489 = .ok (.iload_n 1, 1) := dk_27 (dk_at dksX4_gotData_20 22 rfl rfl)
theorem dX4_gotData_490 : decode cX4_gotData 490 = .ok (.iastore, 1) := dk_79 (dk_at dksX4_gotData_20 23 rfl rfl)
theorem dX4_gotData_491 : decode cX4_gotData 491 = .ok (.dup, 1) := dk_89 (dk_at dksX4_gotData_21 0 rfl rfl)
theorem dX4_gotData_492 : decode cX4_gotData 492 = .ok (.iconst 1, 1) := dk_4 (dk_at dksX4_gotData_21 1 rfl rfl)
theorem dX4_gotData_493 : decode cX4_gotData 493 = .ok (.iload 8, 2) := dk_21 8 (dk_at dksX4_gotData_21 2 rfl rfl)
theorem dX4_gotData_495 : decode cX4_gotData 495 = .ok (.iastore, 1) := dk_79 (dk_at dksX4_gotData_21 4 rfl rfl)
theorem dX4_gotData_496 : decode cX4_gotData 496 = .ok (.dup, 1) := dk_89 (dk_at dksX4_gotData_21 5 rfl rfl)
theorem dX4_gotData_497 : decode cX4_gotData 497 = .ok (.iconst 2, 1) := dk_5 (dk_at dksX4_gotData_21 6 rfl rfl)
theorem dX4_gotData_498 : decode cX4_gotData 498 = .ok (.iload 5, 2) := dk_21 5 (dk_at dksX4_gotData_21 7 rfl rfl)
theorem dX4_gotData_500 : decode cX4_gotData 500 = .ok (.iastore, 1) := dk_79 (dk_at dksX4_gotData_21 9 rfl rfl)
theorem dX4_gotData_501 : decode cX4_gotData 501 = .ok (.dup, 1) := dk_89 (dk_at dksX4_gotData_21 10 rfl rfl)
theorem dX4_gotData_502 : decode cX4_gotData 502 = .ok (.iconst 3, 1) := dk_6 (dk_at dksX4_gotData_21 11 rfl rfl)
theorem dX4_gotData_503 : decode cX4_gotData 503 = .ok (.iload 6, 2) := dk_21 6 (dk_at dksX4_gotData_21 12 rfl rfl)
theorem dX4_gotData_505 : decode cX4_gotData 505 = .ok (.iastore, 1) := dk_79 (dk_at dksX4_gotData_21 14 rfl rfl)
theorem dX4_gotData_506 : decode cX4_gotData 506 = .ok (.dup, 1) := dk_89 (dk_at dksX4_gotData_21 15 rfl rfl)
theorem dX4_gotData_507 : decode cX4_gotData 507 = .ok (.iconst 4, 1) := dk_7 (dk_at dksX4_gotData_21 16 rfl rfl)
theorem dX4_gotData_508 : decode cX4_gotData 508 = .ok (.iload 7, 2) := dk_21 7 (dk_at dksX4_gotData_21 17 rfl rfl)
theorem dX4_gotData_510 : decode cX4_gotData 510 = .ok (.iastore, 1) := dk_79 (dk_at dksX4_gotData_21 19 rfl rfl)
theorem dX4_gotData_511 : decode cX4_gotData 511 = .ok (.aastore, 1) := dk_83 (dk_at dksX4_gotData_21 20 rfl rfl)
theorem dX4_gotData_512 : decode cX4_gotData 512 = .ok (.aload_n 0, 1) := dk_42 (dk_at dksX4_gotData_21 21 rfl rfl)
theorem dX4_gotData_513 : decode cX4_gotData 513 = .ok (.aload 11, 2) := dk_25 11 (dk_at dksX4_gotData_21 22 rfl rfl)
theorem dX4_gotData_515 : decode cX4_gotData 515 = .ok (.putfield 83, 3) := dk_181 0 83 (dk_at dksX4_gotData_22 0 rfl rfl)
theorem dX4_gotData_518 : decode cX4_gotData 518 = .ok (.aload_n 0, 1) := dk_42 (dk_at dksX4_gotData_22 3 rfl rfl)
theorem dX4_gotData_519 : decode cX4_gotData 519 = .ok (.getfield 20, 3) := dk_180 0 20 (dk_at dksX4_gotData_22 4 rfl rfl)
theorem dX4_gotData_522 : decode cX4_gotData 522 = .ok (.iload_n 1, 1) := dk_27 (dk_at dksX4_gotData_22 7 rfl rfl)
theorem dX4_gotData_523 : decode cX4_gotData 523 = .ok (.dup2, 1) := dk_92 (dk_at dksX4_gotData_22 8 rfl rfl)
theorem dX4_gotData_524 : decode cX4_gotData 524 = .ok (.iaload, 1) := dk_46 (dk_at dksX4_gotData_22 9 rfl rfl)
theorem dX4_gotData_525 : decode cX4_gotData 525 = .ok (.iconst 1, 1) := dk_4 (dk_at dksX4_gotData_22 10 rfl rfl)
theorem dX4_gotData_526 : decode cX4_gotData 526 = .ok (.iadd, 1) := dk_96 (dk_at dksX4_gotData_22 11 rfl rfl)
theorem dX4_gotData_527 : decode cX4_gotData 527 = .ok (.iastore, 1) := dk_79 (dk_at dksX4_gotData_22 12 rfl rfl)
theorem dX4_gotData_528 : decode cX4_gotData 528 = .ok (.iconst 1, 1) := dk_4 (dk_at dksX4_gotData_22 13 rfl rfl)
theorem dX4_gotData_529 : decode cX4_gotData 529 = .ok (.ireturn, 1) := dk_172 (dk_at dksX4_gotData_22 14 rfl rfl)
abbrev cX4_lose : ByteArray := prog_8_method_49_code
def yX4_lose : MethodName := ⟨RX4, "lose", "(I)I"⟩
def dkwX4_lose_1 : List UInt8 := [182, 0, 244, 42, 180, 0, 95, 172]
abbrev dktX4_lose_1 : List UInt8 := dkwX4_lose_1 ++ []
def dkwX4_lose_0 : List UInt8 := [42, 42, 27, 182, 0, 241, 153, 0, 7, 3, 167, 0, 4, 4, 182, 0, 215, 153, 0, 5, 3, 172, 42, 27]
abbrev dktX4_lose_0 : List UInt8 := dkwX4_lose_0 ++ dktX4_lose_1
theorem dksX4_lose_0 : cX4_lose.data.toList.drop 0 = dktX4_lose_0 := by decide +kernel
theorem dksX4_lose_1 : cX4_lose.data.toList.drop 24 = dktX4_lose_1 := dk_seg dksX4_lose_0 24 rfl rfl
theorem dX4_lose_0 : decode cX4_lose 0 = .ok (.aload_n 0, 1) := dk_42 (dk_at dksX4_lose_0 0 rfl rfl)
theorem dX4_lose_1 : decode cX4_lose 1 = .ok (.aload_n 0, 1) := dk_42 (dk_at dksX4_lose_0 1 rfl rfl)
theorem dX4_lose_2 : decode cX4_lose 2 = .ok (.iload_n 1, 1) := dk_27 (dk_at dksX4_lose_0 2 rfl rfl)
theorem dX4_lose_3 : decode cX4_lose 3 = .ok (.invokevirtual 241, 3) := dk_182 0 241 (dk_at dksX4_lose_0 3 rfl rfl)
theorem dX4_lose_6 : decode cX4_lose 6 = .ok (.ifCond .eq 7, 3) := dk_153 0 7 (dk_at dksX4_lose_0 6 rfl rfl)
theorem dX4_lose_9 : decode cX4_lose 9 = .ok (.iconst 0, 1) := dk_3 (dk_at dksX4_lose_0 9 rfl rfl)
theorem dX4_lose_10 : decode cX4_lose 10 = .ok (.goto 4, 3) := dk_167 0 4 (dk_at dksX4_lose_0 10 rfl rfl)
theorem dX4_lose_13 : decode cX4_lose 13 = .ok (.iconst 1, 1) := dk_4 (dk_at dksX4_lose_0 13 rfl rfl)
theorem dX4_lose_14 : decode cX4_lose 14 = .ok (.invokevirtual 215, 3) := dk_182 0 215 (dk_at dksX4_lose_0 14 rfl rfl)
theorem dX4_lose_17 : decode cX4_lose 17 = .ok (.ifCond .eq 5, 3) := dk_153 0 5 (dk_at dksX4_lose_0 17 rfl rfl)
theorem dX4_lose_20 : decode cX4_lose 20 = .ok (.iconst 0, 1) := dk_3 (dk_at dksX4_lose_0 20 rfl rfl)
theorem dX4_lose_21 : decode cX4_lose 21 = .ok (.ireturn, 1) := dk_172 (dk_at dksX4_lose_0 21 rfl rfl)
theorem dX4_lose_22 : decode cX4_lose 22 = .ok (.aload_n 0, 1) := dk_42 (dk_at dksX4_lose_0 22 rfl rfl)
theorem dX4_lose_23 : decode cX4_lose 23 = .ok (.iload_n 1, 1) := dk_27 (dk_at dksX4_lose_0 23 rfl rfl)
theorem dX4_lose_24 : decode cX4_lose 24 = .ok (.invokevirtual 244, 3) := dk_182 0 244 (dk_at dksX4_lose_1 0 rfl rfl)
theorem dX4_lose_27 : decode cX4_lose 27 = .ok (.aload_n 0, 1) := dk_42 (dk_at dksX4_lose_1 3 rfl rfl)
theorem dX4_lose_28 : decode cX4_lose 28 = .ok (.getfield 95, 3) := dk_180 0 95 (dk_at dksX4_lose_1 4 rfl rfl)
theorem dX4_lose_31 : decode cX4_lose 31 = .ok (.ireturn, 1) := dk_172 (dk_at dksX4_lose_1 7 rfl rfl)
abbrev cX4_twice : ByteArray := prog_8_method_50_code
def yX4_twice : MethodName := ⟨RX4, "twice", "(I)I"⟩
def dkwX4_twice_2 : List UInt8 := [181, 0, 95, 42, 180, 0, 80, 27, 50, 182, 0, 254, 192, 0, 199, 83, 42, 180, 0, 95, 172]
abbrev dktX4_twice_2 : List UInt8 := dkwX4_twice_2 ++ []
def dkwX4_twice_1 : List UInt8 := [167, 0, 4, 3, 182, 0, 215, 153, 0, 5, 3, 172, 42, 180, 0, 80, 42, 89, 180, 0, 95, 90, 4, 96]
abbrev dktX4_twice_1 : List UInt8 := dkwX4_twice_1 ++ dktX4_twice_2
def dkwX4_twice_0 : List UInt8 := [42, 42, 27, 182, 0, 241, 154, 0, 7, 4, 167, 0, 17, 42, 180, 0, 95, 16, 60, 160, 0, 7, 5]
abbrev dktX4_twice_0 : List UInt8 := dkwX4_twice_0 ++ dktX4_twice_1
theorem dksX4_twice_0 : cX4_twice.data.toList.drop 0 = dktX4_twice_0 := by decide +kernel
theorem dksX4_twice_1 : cX4_twice.data.toList.drop 23 = dktX4_twice_1 := dk_seg dksX4_twice_0 23 rfl rfl
theorem dksX4_twice_2 : cX4_twice.data.toList.drop 47 = dktX4_twice_2 := dk_seg dksX4_twice_1 24 rfl rfl
theorem dX4_twice_0 : decode cX4_twice 0 = .ok (.aload_n 0, 1) := dk_42 (dk_at dksX4_twice_0 0 rfl rfl)
theorem dX4_twice_1 : decode cX4_twice 1 = .ok (.aload_n 0, 1) := dk_42 (dk_at dksX4_twice_0 1 rfl rfl)
theorem dX4_twice_2 : decode cX4_twice 2 = .ok (.iload_n 1, 1) := dk_27 (dk_at dksX4_twice_0 2 rfl rfl)
theorem dX4_twice_3 : decode cX4_twice 3 = .ok (.invokevirtual 241, 3) := dk_182 0 241 (dk_at dksX4_twice_0 3 rfl rfl)
theorem dX4_twice_6 : decode cX4_twice 6 = .ok (.ifCond .ne 7, 3) := dk_154 0 7 (dk_at dksX4_twice_0 6 rfl rfl)
theorem dX4_twice_9 : decode cX4_twice 9 = .ok (.iconst 1, 1) := dk_4 (dk_at dksX4_twice_0 9 rfl rfl)
theorem dX4_twice_10 : decode cX4_twice 10 = .ok (.goto 17, 3) := dk_167 0 17 (dk_at dksX4_twice_0 10 rfl rfl)
theorem dX4_twice_13 : decode cX4_twice 13 = .ok (.aload_n 0, 1) := dk_42 (dk_at dksX4_twice_0 13 rfl rfl)
theorem dX4_twice_14 : decode cX4_twice 14 = .ok (.getfield 95, 3) := dk_180 0 95 (dk_at dksX4_twice_0 14 rfl rfl)
theorem dX4_twice_17 : decode cX4_twice 17 = .ok (.bipush 60, 2) := dk_16 60 (dk_at dksX4_twice_0 17 rfl rfl)
theorem dX4_twice_19 : decode cX4_twice 19 = .ok (.if_icmp .ne 7, 3) := dk_160 0 7 (dk_at dksX4_twice_0 19 rfl rfl)
theorem dX4_twice_22 : decode cX4_twice 22 = .ok (.iconst 2, 1) := dk_5 (dk_at dksX4_twice_0 22 rfl rfl)
theorem dX4_twice_23 : decode cX4_twice 23 = .ok (.goto 4, 3) := dk_167 0 4 (dk_at dksX4_twice_1 0 rfl rfl)
theorem dX4_twice_26 : decode cX4_twice 26 = .ok (.iconst 0, 1) := dk_3 (dk_at dksX4_twice_1 3 rfl rfl)
theorem dX4_twice_27 : decode cX4_twice 27 = .ok (.invokevirtual 215, 3) := dk_182 0 215 (dk_at dksX4_twice_1 4 rfl rfl)
theorem dX4_twice_30 : decode cX4_twice 30 = .ok (.ifCond .eq 5, 3) := dk_153 0 5 (dk_at dksX4_twice_1 7 rfl rfl)
theorem dX4_twice_33 : decode cX4_twice 33 = .ok (.iconst 0, 1) := dk_3 (dk_at dksX4_twice_1 10 rfl rfl)
theorem dX4_twice_34 : decode cX4_twice 34 = .ok (.ireturn, 1) := dk_172 (dk_at dksX4_twice_1 11 rfl rfl)
theorem dX4_twice_35 : decode cX4_twice 35 = .ok (.aload_n 0, 1) := dk_42 (dk_at dksX4_twice_1 12 rfl rfl)
theorem dX4_twice_36 : decode cX4_twice 36 = .ok (.getfield 80, 3) := dk_180 0 80 (dk_at dksX4_twice_1 13 rfl rfl)
theorem dX4_twice_39 : decode cX4_twice 39 = .ok (.aload_n 0, 1) := dk_42 (dk_at dksX4_twice_1 16 rfl rfl)
theorem dX4_twice_40 : decode cX4_twice 40 = .ok (.dup, 1) := dk_89 (dk_at dksX4_twice_1 17 rfl rfl)
theorem dX4_twice_41 : decode cX4_twice 41 = .ok (.getfield 95, 3) := dk_180 0 95 (dk_at dksX4_twice_1 18 rfl rfl)
theorem dX4_twice_44 : decode cX4_twice 44 = .ok (.dup_x1, 1) := dk_90 (dk_at dksX4_twice_1 21 rfl rfl)
theorem dX4_twice_45 : decode cX4_twice 45 = .ok (.iconst 1, 1) := dk_4 (dk_at dksX4_twice_1 22 rfl rfl)
theorem dX4_twice_46 : decode cX4_twice 46 = .ok (.iadd, 1) := dk_96 (dk_at dksX4_twice_1 23 rfl rfl)
theorem dX4_twice_47 : decode cX4_twice 47 = .ok (.putfield 95, 3) := dk_181 0 95 (dk_at dksX4_twice_2 0 rfl rfl)
theorem dX4_twice_50 : decode cX4_twice 50 = .ok (.aload_n 0, 1) := dk_42 (dk_at dksX4_twice_2 3 rfl rfl)
theorem dX4_twice_51 : decode cX4_twice 51 = .ok (.getfield 80, 3) := dk_180 0 80 (dk_at dksX4_twice_2 4 rfl rfl)
theorem dX4_twice_54 : decode cX4_twice 54 = .ok (.iload_n 1, 1) := dk_27 (dk_at dksX4_twice_2 7 rfl rfl)
theorem dX4_twice_55 : decode cX4_twice 55 = .ok (.aaload, 1) := dk_50 (dk_at dksX4_twice_2 8 rfl rfl)
theorem dX4_twice_56 : decode cX4_twice 56 = .ok (.invokevirtual 254, 3) := dk_182 0 254 (dk_at dksX4_twice_2 9 rfl rfl)
theorem dX4_twice_59 : decode cX4_twice 59 = .ok (.checkcast 199, 3) := dk_192 0 199 (dk_at dksX4_twice_2 12 rfl rfl)
theorem dX4_twice_62 : decode cX4_twice 62 = .ok (.aastore, 1) := dk_83 (dk_at dksX4_twice_2 15 rfl rfl)
theorem dX4_twice_63 : decode cX4_twice 63 = .ok (.aload_n 0, 1) := dk_42 (dk_at dksX4_twice_2 16 rfl rfl)
theorem dX4_twice_64 : decode cX4_twice 64 = .ok (.getfield 95, 3) := dk_180 0 95 (dk_at dksX4_twice_2 17 rfl rfl)
theorem dX4_twice_67 : decode cX4_twice 67 = .ok (.ireturn, 1) := dk_172 (dk_at dksX4_twice_2 20 rfl rfl)
abbrev cX4_turn : ByteArray := prog_8_method_52_code
def yX4_turn : MethodName := ⟨RX4, "turn", "(III)I"⟩
def dkwX4_turn_7 : List UInt8 := [6, 28, 96, 92, 46, 29, 96, 79, 42, 180, 0, 80, 27, 50, 6, 28, 96, 46, 172]
abbrev dktX4_turn_7 : List UInt8 := dkwX4_turn_7 ++ []
def dkwX4_turn_6 : List UInt8 := [182, 0, 215, 153, 0, 5, 3, 172, 42, 180, 0, 80, 27, 50, 16, 15, 28, 79, 42, 180, 0, 80, 27, 50]
abbrev dktX4_turn_6 : List UInt8 := dkwX4_turn_6 ++ dktX4_turn_7
def dkwX4_turn_5 : List UInt8 := [159, 0, 20, 42, 180, 0, 80, 27, 50, 16, 15, 46, 28, 159, 0, 7, 6, 167, 0, 5, 21, 4]
abbrev dktX4_turn_5 : List UInt8 := dkwX4_turn_5 ++ dktX4_turn_6
def dkwX4_turn_4 : List UInt8 := [154, 0, 6, 5, 54, 4, 42, 21, 4, 154, 0, 33, 42, 180, 0, 80, 27, 50, 16, 15, 46, 2]
abbrev dktX4_turn_4 : List UInt8 := dkwX4_turn_4 ++ dktX4_turn_5
def dkwX4_turn_3 : List UInt8 := [97, 42, 180, 0, 80, 27, 50, 16, 9, 28, 96, 46, 133, 101, 20, 1, 11, 20, 1, 13, 184, 0, 91]
abbrev dktX4_turn_3 : List UInt8 := dkwX4_turn_3 ++ dktX4_turn_4
def dkwX4_turn_2 : List UInt8 := [167, 0, 4, 3, 54, 4, 21, 4, 154, 0, 45, 42, 180, 0, 80, 27, 50, 6, 28, 96, 46, 133, 29, 133]
abbrev dktX4_turn_2 : List UInt8 := dkwX4_turn_2 ++ dktX4_turn_3
def dkwX4_turn_1 : List UInt8 := [153, 0, 21, 29, 153, 0, 17, 29, 133, 20, 1, 7, 20, 1, 9, 184, 0, 91, 154, 0, 7, 5]
abbrev dktX4_turn_1 : List UInt8 := dkwX4_turn_1 ++ dktX4_turn_2
def dkwX4_turn_0 : List UInt8 := [42, 27, 182, 0, 241, 154, 0, 7, 4, 167, 0, 41, 42, 180, 0, 80, 27, 50, 5, 46, 28, 184, 1, 4]
abbrev dktX4_turn_0 : List UInt8 := dkwX4_turn_0 ++ dktX4_turn_1
theorem dksX4_turn_0 : cX4_turn.data.toList.drop 0 = dktX4_turn_0 := by decide +kernel
theorem dksX4_turn_1 : cX4_turn.data.toList.drop 24 = dktX4_turn_1 := dk_seg dksX4_turn_0 24 rfl rfl
theorem dksX4_turn_2 : cX4_turn.data.toList.drop 46 = dktX4_turn_2 := dk_seg dksX4_turn_1 22 rfl rfl
theorem dksX4_turn_3 : cX4_turn.data.toList.drop 70 = dktX4_turn_3 := dk_seg dksX4_turn_2 24 rfl rfl
theorem dksX4_turn_4 : cX4_turn.data.toList.drop 93 = dktX4_turn_4 := dk_seg dksX4_turn_3 23 rfl rfl
theorem dksX4_turn_5 : cX4_turn.data.toList.drop 115 = dktX4_turn_5 := dk_seg dksX4_turn_4 22 rfl rfl
theorem dksX4_turn_6 : cX4_turn.data.toList.drop 137 = dktX4_turn_6 := dk_seg dksX4_turn_5 22 rfl rfl
theorem dksX4_turn_7 : cX4_turn.data.toList.drop 161 = dktX4_turn_7 := dk_seg dksX4_turn_6 24 rfl rfl
theorem dX4_turn_0 : decode cX4_turn 0 = .ok (.aload_n 0, 1) := dk_42 (dk_at dksX4_turn_0 0 rfl rfl)
theorem dX4_turn_1 : decode cX4_turn 1 = .ok (.iload_n 1, 1) := dk_27 (dk_at dksX4_turn_0 1 rfl rfl)
theorem dX4_turn_2 : decode cX4_turn 2 = .ok (.invokevirtual 241, 3) := dk_182 0 241 (dk_at dksX4_turn_0 2 rfl rfl)
theorem dX4_turn_5 : decode cX4_turn 5 = .ok (.ifCond .ne 7, 3) := dk_154 0 7 (dk_at dksX4_turn_0 5 rfl rfl)
theorem dX4_turn_8 : decode cX4_turn 8 = .ok (.iconst 1, 1) := dk_4 (dk_at dksX4_turn_0 8 rfl rfl)
theorem dX4_turn_9 : decode cX4_turn 9 = .ok (.goto 41, 3) := dk_167 0 41 (dk_at dksX4_turn_0 9 rfl rfl)
theorem dX4_turn_12 : decode cX4_turn 12 = .ok (.aload_n 0, 1) := dk_42 (dk_at dksX4_turn_0 12 rfl rfl)
theorem dX4_turn_13 : decode cX4_turn 13 = .ok (.getfield 80, 3) := dk_180 0 80 (dk_at dksX4_turn_0 13 rfl rfl)
theorem dX4_turn_16 : decode cX4_turn 16 = .ok (.iload_n 1, 1) := dk_27 (dk_at dksX4_turn_0 16 rfl rfl)
theorem dX4_turn_17 : decode cX4_turn 17 = .ok (.aaload, 1) := dk_50 (dk_at dksX4_turn_0 17 rfl rfl)
theorem dX4_turn_18 : decode cX4_turn 18 = .ok (.iconst 2, 1) := dk_5 (dk_at dksX4_turn_0 18 rfl rfl)
theorem dX4_turn_19 : decode cX4_turn 19 = .ok (.iaload, 1) := dk_46 (dk_at dksX4_turn_0 19 rfl rfl)
theorem dX4_turn_20 : decode cX4_turn 20 = .ok (.iload_n 2, 1) := dk_28 (dk_at dksX4_turn_0 20 rfl rfl)
theorem dX4_turn_21 : decode cX4_turn 21 = .ok (.invokestatic 260, 3) := dk_184 1 4 (dk_at dksX4_turn_0 21 rfl rfl)
theorem dX4_turn_24 : decode cX4_turn 24 = .ok (.ifCond .eq 21, 3) := dk_153 0 21 (dk_at dksX4_turn_1 0 rfl rfl)
theorem dX4_turn_27 : decode cX4_turn 27 = .ok (.iload_n 3, 1) := dk_29 (dk_at dksX4_turn_1 3 rfl rfl)
theorem dX4_turn_28 : decode cX4_turn 28 = .ok (.ifCond .eq 17, 3) := dk_153 0 17 (dk_at dksX4_turn_1 4 rfl rfl)
theorem dX4_turn_31 : decode cX4_turn 31 = .ok (.iload_n 3, 1) := dk_29 (dk_at dksX4_turn_1 7 rfl rfl)
theorem dX4_turn_32 : decode cX4_turn 32 = .ok (.i2l, 1) := dk_133 (dk_at dksX4_turn_1 8 rfl rfl)
theorem dX4_turn_33 : decode cX4_turn 33 = .ok (.ldc2_w 263, 3) := dk_20 1 7 (dk_at dksX4_turn_1 9 rfl rfl)
theorem dX4_turn_36 : decode cX4_turn 36 = .ok (.ldc2_w 265, 3) := dk_20 1 9 (dk_at dksX4_turn_1 12 rfl rfl)
theorem dX4_turn_39 : decode cX4_turn 39 = .ok (.invokestatic 91, 3) := dk_184 0 91 (dk_at dksX4_turn_1 15 rfl rfl)
theorem dX4_turn_42 : decode cX4_turn 42 = .ok (.ifCond .ne 7, 3) := dk_154 0 7 (dk_at dksX4_turn_1 18 rfl rfl)
theorem dX4_turn_45 : decode cX4_turn 45 = .ok (.iconst 2, 1) := dk_5 (dk_at dksX4_turn_1 21 rfl rfl)
theorem dX4_turn_46 : decode cX4_turn 46 = .ok (.goto 4, 3) := dk_167 0 4 (dk_at dksX4_turn_2 0 rfl rfl)
theorem dX4_turn_49 : decode cX4_turn 49 = .ok (.iconst 0, 1) := dk_3 (dk_at dksX4_turn_2 3 rfl rfl)
theorem dX4_turn_50 : decode cX4_turn 50 = .ok (.istore 4, 2) := dk_54 4 (dk_at dksX4_turn_2 4 rfl rfl)
theorem dX4_turn_52 : decode cX4_turn 52 = .ok (.iload 4, 2) := dk_21 4 (dk_at dksX4_turn_2 6 rfl rfl)
theorem dX4_turn_54 : decode cX4_turn 54 = .ok (.ifCond .ne 45, 3) := dk_154 0 45 (dk_at dksX4_turn_2 8 rfl rfl)
theorem dX4_turn_57 : decode cX4_turn 57 = .ok (.aload_n 0, 1) := dk_42 (dk_at dksX4_turn_2 11 rfl rfl)
theorem dX4_turn_58 : decode cX4_turn 58 = .ok (.getfield 80, 3) := dk_180 0 80 (dk_at dksX4_turn_2 12 rfl rfl)
theorem dX4_turn_61 : decode cX4_turn 61 = .ok (.iload_n 1, 1) := dk_27 (dk_at dksX4_turn_2 15 rfl rfl)
theorem dX4_turn_62 : decode cX4_turn 62 = .ok (.aaload, 1) := dk_50 (dk_at dksX4_turn_2 16 rfl rfl)
theorem dX4_turn_63 : decode cX4_turn 63 = .ok (.iconst 3, 1) := dk_6 (dk_at dksX4_turn_2 17 rfl rfl)
theorem dX4_turn_64 : decode cX4_turn 64 = .ok (.iload_n 2, 1) := dk_28 (dk_at dksX4_turn_2 18 rfl rfl)
theorem dX4_turn_65 : decode cX4_turn 65 = .ok (.iadd, 1) := dk_96 (dk_at dksX4_turn_2 19 rfl rfl)
theorem dX4_turn_66 : decode cX4_turn 66 = .ok (.iaload, 1) := dk_46 (dk_at dksX4_turn_2 20 rfl rfl)
theorem dX4_turn_67 : decode cX4_turn 67 = .ok (.i2l, 1) := dk_133 (dk_at dksX4_turn_2 21 rfl rfl)
theorem dX4_turn_68 : decode cX4_turn 68 = .ok (.iload_n 3, 1) := dk_29 (dk_at dksX4_turn_2 22 rfl rfl)
theorem dX4_turn_69 : decode cX4_turn 69 = .ok (.i2l, 1) := dk_133 (dk_at dksX4_turn_2 23 rfl rfl)
theorem dX4_turn_70 : decode cX4_turn 70 = .ok (.ladd, 1) := dk_97 (dk_at dksX4_turn_3 0 rfl rfl)
theorem dX4_turn_71 : decode cX4_turn 71 = .ok (.aload_n 0, 1) := dk_42 (dk_at dksX4_turn_3 1 rfl rfl)
theorem dX4_turn_72 : decode cX4_turn 72 = .ok (.getfield 80, 3) := dk_180 0 80 (dk_at dksX4_turn_3 2 rfl rfl)
theorem dX4_turn_75 : decode cX4_turn 75 = .ok (.iload_n 1, 1) := dk_27 (dk_at dksX4_turn_3 5 rfl rfl)
theorem dX4_turn_76 : decode cX4_turn 76 = .ok (.aaload, 1) := dk_50 (dk_at dksX4_turn_3 6 rfl rfl)
theorem dX4_turn_77 : decode cX4_turn 77 = .ok (.bipush 9, 2) := dk_16 9 (dk_at dksX4_turn_3 7 rfl rfl)
theorem dX4_turn_79 : decode cX4_turn 79 = .ok (.iload_n 2, 1) := dk_28 (dk_at dksX4_turn_3 9 rfl rfl)
theorem dX4_turn_80 : decode cX4_turn 80 = .ok (.iadd, 1) := dk_96 (dk_at dksX4_turn_3 10 rfl rfl)
theorem dX4_turn_81 : decode cX4_turn 81 = .ok (.iaload, 1) := dk_46 (dk_at dksX4_turn_3 11 rfl rfl)
theorem dX4_turn_82 : decode cX4_turn 82 = .ok (.i2l, 1) := dk_133 (dk_at dksX4_turn_3 12 rfl rfl)
theorem dX4_turn_83 : decode cX4_turn 83 = .ok (.lsub, 1) := dk_101 (dk_at dksX4_turn_3 13 rfl rfl)
theorem dX4_turn_84 : decode cX4_turn 84 = .ok (.ldc2_w 267, 3) := dk_20 1 11 (dk_at dksX4_turn_3 14 rfl rfl)
theorem dX4_turn_87 : decode cX4_turn 87 = .ok (.ldc2_w 269, 3) := dk_20 1 13 (dk_at dksX4_turn_3 17 rfl rfl)
theorem dX4_turn_90 : decode cX4_turn 90 = .ok (.invokestatic 91, 3) := dk_184 0 91 (dk_at dksX4_turn_3 20 rfl rfl)
theorem dX4_turn_93 : decode cX4_turn 93 = .ok (.ifCond .ne 6, 3) := dk_154 0 6 (dk_at dksX4_turn_4 0 rfl rfl)
theorem dX4_turn_96 : decode cX4_turn 96 = .ok (.iconst 2, 1) := dk_5 (dk_at dksX4_turn_4 3 rfl rfl)
theorem dX4_turn_97 : decode cX4_turn 97 = .ok (.istore 4, 2) := dk_54 4 (dk_at dksX4_turn_4 4 rfl rfl)
theorem dX4_turn_99 : decode cX4_turn 99 = .ok (.aload_n 0, 1) := dk_42 (dk_at dksX4_turn_4 6 rfl rfl)
theorem dX4_turn_100 : decode cX4_turn 100 = .ok (.iload 4, 2) := dk_21 4 (dk_at dksX4_turn_4 7 rfl rfl)
theorem dX4_turn_102 : decode cX4_turn 102 = .ok (.ifCond .ne 33, 3) := dk_154 0 33 (dk_at dksX4_turn_4 9 rfl rfl)
theorem dX4_turn_105 : decode cX4_turn 105 = .ok (.aload_n 0, 1) := dk_42 (dk_at dksX4_turn_4 12 rfl rfl)
theorem dX4_turn_106 : decode cX4_turn 106 = .ok (.getfield 80, 3) := dk_180 0 80 (dk_at dksX4_turn_4 13 rfl rfl)
theorem dX4_turn_109 : decode cX4_turn 109 = .ok (.iload_n 1, 1) := dk_27 (dk_at dksX4_turn_4 16 rfl rfl)
theorem dX4_turn_110 : decode cX4_turn 110 = .ok (.aaload, 1) := dk_50 (dk_at dksX4_turn_4 17 rfl rfl)
theorem dX4_turn_111 : decode cX4_turn 111 = .ok (.bipush 15, 2) := dk_16 15 (dk_at dksX4_turn_4 18 rfl rfl)
theorem dX4_turn_113 : decode cX4_turn 113 = .ok (.iaload, 1) := dk_46 (dk_at dksX4_turn_4 20 rfl rfl)
theorem dX4_turn_114 : decode cX4_turn 114 = .ok (.iconst (-1), 1) := dk_2 (dk_at dksX4_turn_4 21 rfl rfl)
theorem dX4_turn_115 : decode cX4_turn 115 = .ok (.if_icmp .eq 20, 3) := dk_159 0 20 (dk_at dksX4_turn_5 0 rfl rfl)
theorem dX4_turn_118 : decode cX4_turn 118 = .ok (.aload_n 0, 1) := dk_42 (dk_at dksX4_turn_5 3 rfl rfl)
theorem dX4_turn_119 : decode cX4_turn 119 = .ok (.getfield 80, 3) := dk_180 0 80 (dk_at dksX4_turn_5 4 rfl rfl)
theorem dX4_turn_122 : decode cX4_turn 122 = .ok (.iload_n 1, 1) := dk_27 (dk_at dksX4_turn_5 7 rfl rfl)
theorem dX4_turn_123 : decode cX4_turn 123 = .ok (.aaload, 1) := dk_50 (dk_at dksX4_turn_5 8 rfl rfl)
theorem dX4_turn_124 : decode cX4_turn 124 = .ok (.bipush 15, 2) := dk_16 15 (dk_at dksX4_turn_5 9 rfl rfl)
theorem dX4_turn_126 : decode cX4_turn 126 = .ok (.iaload, 1) := dk_46 (dk_at dksX4_turn_5 11 rfl rfl)
theorem dX4_turn_127 : decode cX4_turn 127 = .ok (.iload_n 2, 1) := dk_28 (dk_at dksX4_turn_5 12 rfl rfl)
theorem dX4_turn_128 : decode cX4_turn 128 = .ok (.if_icmp .eq 7, 3) := dk_159 0 7 (dk_at dksX4_turn_5 13 rfl rfl)
theorem dX4_turn_131 : decode cX4_turn 131 = .ok (.iconst 3, 1) := dk_6 (dk_at dksX4_turn_5 16 rfl rfl)
theorem dX4_turn_132 : decode cX4_turn 132 = .ok (.goto 5, 3) := dk_167 0 5 (dk_at dksX4_turn_5 17 rfl rfl)
theorem dX4_turn_135 : decode cX4_turn 135 = .ok (.iload 4, 2) := dk_21 4 (dk_at dksX4_turn_5 20 rfl rfl)
theorem dX4_turn_137 : decode cX4_turn 137 = .ok (.invokevirtual 215, 3) := dk_182 0 215 (dk_at dksX4_turn_6 0 rfl rfl)
theorem dX4_turn_140 : decode cX4_turn 140 = .ok (.ifCond .eq 5, 3) := dk_153 0 5 (dk_at dksX4_turn_6 3 rfl rfl)
theorem dX4_turn_143 : decode cX4_turn 143 = .ok (.iconst 0, 1) := dk_3 (dk_at dksX4_turn_6 6 rfl rfl)
theorem dX4_turn_144 : decode cX4_turn 144 = .ok (.ireturn, 1) := dk_172 (dk_at dksX4_turn_6 7 rfl rfl)
theorem dX4_turn_145 : decode cX4_turn 145 = .ok (.aload_n 0, 1) := dk_42 (dk_at dksX4_turn_6 8 rfl rfl)
theorem dX4_turn_146 : decode cX4_turn 146 = .ok (.getfield 80, 3) := dk_180 0 80 (dk_at dksX4_turn_6 9 rfl rfl)
theorem dX4_turn_149 : decode cX4_turn 149 = .ok (.iload_n 1, 1) := dk_27 (dk_at dksX4_turn_6 12 rfl rfl)
theorem dX4_turn_150 : decode cX4_turn 150 = .ok (.aaload, 1) := dk_50 (dk_at dksX4_turn_6 13 rfl rfl)
theorem dX4_turn_151 : decode cX4_turn 151 = .ok (.bipush 15, 2) := dk_16 15 (dk_at dksX4_turn_6 14 rfl rfl)
theorem dX4_turn_153 : decode cX4_turn 153 = .ok (.iload_n 2, 1) := dk_28 (dk_at dksX4_turn_6 16 rfl rfl)
theorem dX4_turn_154 : decode cX4_turn 154 = .ok (.iastore, 1) := dk_79 (dk_at dksX4_turn_6 17 rfl rfl)
theorem dX4_turn_155 : decode cX4_turn 155 = .ok (.aload_n 0, 1) := dk_42 (dk_at dksX4_turn_6 18 rfl rfl)
theorem dX4_turn_156 : decode cX4_turn 156 = .ok (.getfield 80, 3) := dk_180 0 80 (dk_at dksX4_turn_6 19 rfl rfl)
theorem dX4_turn_159 : decode cX4_turn 159 = .ok (.iload_n 1, 1) := dk_27 (dk_at dksX4_turn_6 22 rfl rfl)
theorem dX4_turn_160 : decode cX4_turn 160 = .ok (.aaload, 1) := dk_50 (dk_at dksX4_turn_6 23 rfl rfl)
theorem dX4_turn_161 : decode cX4_turn 161 = .ok (.iconst 3, 1) := dk_6 (dk_at dksX4_turn_7 0 rfl rfl)
theorem dX4_turn_162 : decode cX4_turn 162 = .ok (.iload_n 2, 1) := dk_28 (dk_at dksX4_turn_7 1 rfl rfl)
theorem dX4_turn_163 : decode cX4_turn 163 = .ok (.iadd, 1) := dk_96 (dk_at dksX4_turn_7 2 rfl rfl)
theorem dX4_turn_164 : decode cX4_turn 164 = .ok (.dup2, 1) := dk_92 (dk_at dksX4_turn_7 3 rfl rfl)
theorem dX4_turn_165 : decode cX4_turn 165 = .ok (.iaload, 1) := dk_46 (dk_at dksX4_turn_7 4 rfl rfl)
theorem dX4_turn_166 : decode cX4_turn 166 = .ok (.iload_n 3, 1) := dk_29 (dk_at dksX4_turn_7 5 rfl rfl)
theorem dX4_turn_167 : decode cX4_turn 167 = .ok (.iadd, 1) := dk_96 (dk_at dksX4_turn_7 6 rfl rfl)
theorem dX4_turn_168 : decode cX4_turn 168 = .ok (.iastore, 1) := dk_79 (dk_at dksX4_turn_7 7 rfl rfl)
theorem dX4_turn_169 : decode cX4_turn 169 = .ok (.aload_n 0, 1) := dk_42 (dk_at dksX4_turn_7 8 rfl rfl)
theorem dX4_turn_170 : decode cX4_turn 170 = .ok (.getfield 80, 3) := dk_180 0 80 (dk_at dksX4_turn_7 9 rfl rfl)
theorem dX4_turn_173 : decode cX4_turn 173 = .ok (.iload_n 1, 1) := dk_27 (dk_at dksX4_turn_7 12 rfl rfl)
theorem dX4_turn_174 : decode cX4_turn 174 = .ok (.aaload, 1) := dk_50 (dk_at dksX4_turn_7 13 rfl rfl)
theorem dX4_turn_175 : decode cX4_turn 175 = .ok (.iconst 3, 1) := dk_6 (dk_at dksX4_turn_7 14 rfl rfl)
theorem dX4_turn_176 : decode cX4_turn 176 = .ok (.iload_n 2, 1) := dk_28 (dk_at dksX4_turn_7 15 rfl rfl)
theorem dX4_turn_177 : decode cX4_turn 177 = .ok (.iadd, 1) := dk_96 (dk_at dksX4_turn_7 16 rfl rfl)
theorem dX4_turn_178 : decode cX4_turn 178 = .ok (.iaload, 1) := dk_46 (dk_at dksX4_turn_7 17 rfl rfl)
theorem dX4_turn_179 : decode cX4_turn 179 = .ok (.ireturn, 1) := dk_172 (dk_at dksX4_turn_7 18 rfl rfl)
abbrev cX4_canTurn : ByteArray := prog_8_method_51_code
def yX4_canTurn : MethodName := ⟨RX4, "canTurn", "(II)Z"⟩
def dkwX4_canTurn_2 : List UInt8 := [133, 10, 20, 1, 2, 184, 0, 91, 153, 0, 7, 4, 167, 0, 4, 3, 172]
abbrev dktX4_canTurn_2 : List UInt8 := dkwX4_canTurn_2 ++ []
def dkwX4_canTurn_1 : List UInt8 := [159, 0, 35, 26, 6, 160, 0, 13, 27, 4, 159, 0, 25, 27, 5, 159, 0, 20, 26, 7, 160, 0, 19, 27]
abbrev dktX4_canTurn_1 : List UInt8 := dkwX4_canTurn_1 ++ dktX4_canTurn_2
def dkwX4_canTurn_0 : List UInt8 := [26, 4, 160, 0, 13, 27, 6, 159, 0, 50, 27, 7, 159, 0, 45, 26, 5, 160, 0, 8, 27, 6]
abbrev dktX4_canTurn_0 : List UInt8 := dkwX4_canTurn_0 ++ dktX4_canTurn_1
theorem dksX4_canTurn_0 : cX4_canTurn.data.toList.drop 0 = dktX4_canTurn_0 := by decide +kernel
theorem dksX4_canTurn_1 : cX4_canTurn.data.toList.drop 22 = dktX4_canTurn_1 := dk_seg dksX4_canTurn_0 22 rfl rfl
theorem dksX4_canTurn_2 : cX4_canTurn.data.toList.drop 46 = dktX4_canTurn_2 := dk_seg dksX4_canTurn_1 24 rfl rfl
theorem dX4_canTurn_0 : decode cX4_canTurn 0 = .ok (.iload_n 0, 1) := dk_26 (dk_at dksX4_canTurn_0 0 rfl rfl)
theorem dX4_canTurn_1 : decode cX4_canTurn 1 = .ok (.iconst 1, 1) := dk_4 (dk_at dksX4_canTurn_0 1 rfl rfl)
theorem dX4_canTurn_2 : decode cX4_canTurn 2 = .ok (.if_icmp .ne 13, 3) := dk_160 0 13 (dk_at dksX4_canTurn_0 2 rfl rfl)
theorem dX4_canTurn_5 : decode cX4_canTurn 5 = .ok (.iload_n 1, 1) := dk_27 (dk_at dksX4_canTurn_0 5 rfl rfl)
theorem dX4_canTurn_6 : decode cX4_canTurn 6 = .ok (.iconst 3, 1) := dk_6 (dk_at dksX4_canTurn_0 6 rfl rfl)
theorem dX4_canTurn_7 : decode cX4_canTurn 7 = .ok (.if_icmp .eq 50, 3) := dk_159 0 50 (dk_at dksX4_canTurn_0 7 rfl rfl)
theorem dX4_canTurn_10 : decode cX4_canTurn 10 = .ok (.iload_n 1, 1) := dk_27 (dk_at dksX4_canTurn_0 10 rfl rfl)
theorem dX4_canTurn_11 : decode cX4_canTurn 11 = .ok (.iconst 4, 1) := dk_7 (dk_at dksX4_canTurn_0 11 rfl rfl)
theorem dX4_canTurn_12 : decode cX4_canTurn 12 = .ok (.if_icmp .eq 45, 3) := dk_159 0 45 (dk_at dksX4_canTurn_0 12 rfl rfl)
theorem dX4_canTurn_15 : decode cX4_canTurn 15 = .ok (.iload_n 0, 1) := dk_26 (dk_at dksX4_canTurn_0 15 rfl rfl)
theorem dX4_canTurn_16 : decode cX4_canTurn 16 = .ok (.iconst 2, 1) := dk_5 (dk_at dksX4_canTurn_0 16 rfl rfl)
theorem dX4_canTurn_17 : decode cX4_canTurn 17 = .ok (.if_icmp .ne 8, 3) := dk_160 0 8 (dk_at dksX4_canTurn_0 17 rfl rfl)
theorem dX4_canTurn_20 : decode cX4_canTurn 20 = .ok (.iload_n 1, 1) := dk_27 (dk_at dksX4_canTurn_0 20 rfl rfl)
theorem dX4_canTurn_21 : decode cX4_canTurn 21 = .ok (.iconst 3, 1) := dk_6 (dk_at dksX4_canTurn_0 21 rfl rfl)
theorem dX4_canTurn_22 : decode cX4_canTurn 22 = .ok (.if_icmp .eq 35, 3) := dk_159 0 35 (dk_at dksX4_canTurn_1 0 rfl rfl)
theorem dX4_canTurn_25 : decode cX4_canTurn 25 = .ok (.iload_n 0, 1) := dk_26 (dk_at dksX4_canTurn_1 3 rfl rfl)
theorem dX4_canTurn_26 : decode cX4_canTurn 26 = .ok (.iconst 3, 1) := dk_6 (dk_at dksX4_canTurn_1 4 rfl rfl)
theorem dX4_canTurn_27 : decode cX4_canTurn 27 = .ok (.if_icmp .ne 13, 3) := dk_160 0 13 (dk_at dksX4_canTurn_1 5 rfl rfl)
theorem dX4_canTurn_30 : decode cX4_canTurn 30 = .ok (.iload_n 1, 1) := dk_27 (dk_at dksX4_canTurn_1 8 rfl rfl)
theorem dX4_canTurn_31 : decode cX4_canTurn 31 = .ok (.iconst 1, 1) := dk_4 (dk_at dksX4_canTurn_1 9 rfl rfl)
theorem dX4_canTurn_32 : decode cX4_canTurn 32 = .ok (.if_icmp .eq 25, 3) := dk_159 0 25 (dk_at dksX4_canTurn_1 10 rfl rfl)
theorem dX4_canTurn_35 : decode cX4_canTurn 35 = .ok (.iload_n 1, 1) := dk_27 (dk_at dksX4_canTurn_1 13 rfl rfl)
theorem dX4_canTurn_36 : decode cX4_canTurn 36 = .ok (.iconst 2, 1) := dk_5 (dk_at dksX4_canTurn_1 14 rfl rfl)
theorem dX4_canTurn_37 : decode cX4_canTurn 37 = .ok (.if_icmp .eq 20, 3) := dk_159 0 20 (dk_at dksX4_canTurn_1 15 rfl rfl)
theorem dX4_canTurn_40 : decode cX4_canTurn 40 = .ok (.iload_n 0, 1) := dk_26 (dk_at dksX4_canTurn_1 18 rfl rfl)
theorem dX4_canTurn_41 : decode cX4_canTurn 41 = .ok (.iconst 4, 1) := dk_7 (dk_at dksX4_canTurn_1 19 rfl rfl)
theorem dX4_canTurn_42 : decode cX4_canTurn 42 = .ok (.if_icmp .ne 19, 3) := dk_160 0 19 (dk_at dksX4_canTurn_1 20 rfl rfl)
theorem dX4_canTurn_45 : decode cX4_canTurn 45 = .ok (.iload_n 1, 1) := dk_27 (dk_at dksX4_canTurn_1 23 rfl rfl)
theorem dX4_canTurn_46 : decode cX4_canTurn 46 = .ok (.i2l, 1) := dk_133 (dk_at dksX4_canTurn_2 0 rfl rfl)
theorem dX4_canTurn_47 : decode cX4_canTurn 47 = .ok (.lconst 1, 1) := dk_10 (dk_at dksX4_canTurn_2 1 rfl rfl)
theorem dX4_canTurn_48 : decode cX4_canTurn 48 = .ok (.ldc2_w 258, 3) := dk_20 1 2 (dk_at dksX4_canTurn_2 2 rfl rfl)
theorem dX4_canTurn_51 : decode cX4_canTurn 51 = .ok (.invokestatic 91, 3) := dk_184 0 91 (dk_at dksX4_canTurn_2 5 rfl rfl)
theorem dX4_canTurn_54 : decode cX4_canTurn 54 = .ok (.ifCond .eq 7, 3) := dk_153 0 7 (dk_at dksX4_canTurn_2 8 rfl rfl)
theorem dX4_canTurn_57 : decode cX4_canTurn 57 = .ok (.iconst 1, 1) := dk_4 (dk_at dksX4_canTurn_2 11 rfl rfl)
theorem dX4_canTurn_58 : decode cX4_canTurn 58 = .ok (.goto 4, 3) := dk_167 0 4 (dk_at dksX4_canTurn_2 12 rfl rfl)
theorem dX4_canTurn_61 : decode cX4_canTurn 61 = .ok (.iconst 0, 1) := dk_3 (dk_at dksX4_canTurn_2 15 rfl rfl)
theorem dX4_canTurn_62 : decode cX4_canTurn 62 = .ok (.ireturn, 1) := dk_172 (dk_at dksX4_canTurn_2 16 rfl rfl)
abbrev cX4_reroute : ByteArray := prog_8_method_53_code
def yX4_reroute : MethodName := ⟨RX4, "reroute", "(II)I"⟩
def dkwX4_reroute_2 : List UInt8 := [62, 42, 180, 0, 80, 27, 50, 3, 28, 79, 29, 172]
abbrev dktX4_reroute_2 : List UInt8 := dkwX4_reroute_2 ++ []
def dkwX4_reroute_1 : List UInt8 := [154, 0, 7, 5, 167, 0, 4, 3, 182, 0, 215, 153, 0, 5, 3, 172, 42, 180, 0, 80, 27, 50, 3, 46]
abbrev dktX4_reroute_1 : List UInt8 := dkwX4_reroute_1 ++ dktX4_reroute_2
def dkwX4_reroute_0 : List UInt8 := [42, 42, 27, 182, 0, 241, 154, 0, 7, 4, 167, 0, 20, 28, 133, 10, 20, 0, 218, 184, 0, 91]
abbrev dktX4_reroute_0 : List UInt8 := dkwX4_reroute_0 ++ dktX4_reroute_1
theorem dksX4_reroute_0 : cX4_reroute.data.toList.drop 0 = dktX4_reroute_0 := by decide +kernel
theorem dksX4_reroute_1 : cX4_reroute.data.toList.drop 22 = dktX4_reroute_1 := dk_seg dksX4_reroute_0 22 rfl rfl
theorem dksX4_reroute_2 : cX4_reroute.data.toList.drop 46 = dktX4_reroute_2 := dk_seg dksX4_reroute_1 24 rfl rfl
theorem dX4_reroute_0 : decode cX4_reroute 0 = .ok (.aload_n 0, 1) := dk_42 (dk_at dksX4_reroute_0 0 rfl rfl)
theorem dX4_reroute_1 : decode cX4_reroute 1 = .ok (.aload_n 0, 1) := dk_42 (dk_at dksX4_reroute_0 1 rfl rfl)
theorem dX4_reroute_2 : decode cX4_reroute 2 = .ok (.iload_n 1, 1) := dk_27 (dk_at dksX4_reroute_0 2 rfl rfl)
theorem dX4_reroute_3 : decode cX4_reroute 3 = .ok (.invokevirtual 241, 3) := dk_182 0 241 (dk_at dksX4_reroute_0 3 rfl rfl)
theorem dX4_reroute_6 : decode cX4_reroute 6 = .ok (.ifCond .ne 7, 3) := dk_154 0 7 (dk_at dksX4_reroute_0 6 rfl rfl)
theorem dX4_reroute_9 : decode cX4_reroute 9 = .ok (.iconst 1, 1) := dk_4 (dk_at dksX4_reroute_0 9 rfl rfl)
theorem dX4_reroute_10 : decode cX4_reroute 10 = .ok (.goto 20, 3) := dk_167 0 20 (dk_at dksX4_reroute_0 10 rfl rfl)
theorem dX4_reroute_13 : decode cX4_reroute 13 = .ok (.iload_n 2, 1) := dk_28 (dk_at dksX4_reroute_0 13 rfl rfl)
theorem dX4_reroute_14 : decode cX4_reroute 14 = .ok (.i2l, 1) := dk_133 (dk_at dksX4_reroute_0 14 rfl rfl)
theorem dX4_reroute_15 : decode cX4_reroute 15 = .ok (.lconst 1, 1) := dk_10 (dk_at dksX4_reroute_0 15 rfl rfl)
theorem dX4_reroute_16 : decode cX4_reroute 16 = .ok (.ldc2_w 218, 3) := dk_20 0 218 (dk_at dksX4_reroute_0 16 rfl rfl)
theorem dX4_reroute_19 : decode cX4_reroute 19 = .ok (.invokestatic 91, 3) := dk_184 0 91 (dk_at dksX4_reroute_0 19 rfl rfl)
theorem dX4_reroute_22 : decode cX4_reroute 22 = .ok (.ifCond .ne 7, 3) := dk_154 0 7 (dk_at dksX4_reroute_1 0 rfl rfl)
theorem dX4_reroute_25 : decode cX4_reroute 25 = .ok (.iconst 2, 1) := dk_5 (dk_at dksX4_reroute_1 3 rfl rfl)
theorem dX4_reroute_26 : decode cX4_reroute 26 = .ok (.goto 4, 3) := dk_167 0 4 (dk_at dksX4_reroute_1 4 rfl rfl)
theorem dX4_reroute_29 : decode cX4_reroute 29 = .ok (.iconst 0, 1) := dk_3 (dk_at dksX4_reroute_1 7 rfl rfl)
theorem dX4_reroute_30 : decode cX4_reroute 30 = .ok (.invokevirtual 215, 3) := dk_182 0 215 (dk_at dksX4_reroute_1 8 rfl rfl)
theorem dX4_reroute_33 : decode cX4_reroute 33 = .ok (.ifCond .eq 5, 3) := dk_153 0 5 (dk_at dksX4_reroute_1 11 rfl rfl)
theorem dX4_reroute_36 : decode cX4_reroute 36 = .ok (.iconst 0, 1) := dk_3 (dk_at dksX4_reroute_1 14 rfl rfl)
theorem dX4_reroute_37 : decode cX4_reroute 37 = .ok (.ireturn, 1) := dk_172 (dk_at dksX4_reroute_1 15 rfl rfl)
theorem dX4_reroute_38 : decode cX4_reroute 38 = .ok (.aload_n 0, 1) := dk_42 (dk_at dksX4_reroute_1 16 rfl rfl)
theorem dX4_reroute_39 : decode cX4_reroute 39 = .ok (.getfield 80, 3) := dk_180 0 80 (dk_at dksX4_reroute_1 17 rfl rfl)
theorem dX4_reroute_42 : decode cX4_reroute 42 = .ok (.iload_n 1, 1) := dk_27 (dk_at dksX4_reroute_1 20 rfl rfl)
theorem dX4_reroute_43 : decode cX4_reroute 43 = .ok (.aaload, 1) := dk_50 (dk_at dksX4_reroute_1 21 rfl rfl)
theorem dX4_reroute_44 : decode cX4_reroute 44 = .ok (.iconst 0, 1) := dk_3 (dk_at dksX4_reroute_1 22 rfl rfl)
theorem dX4_reroute_45 : decode cX4_reroute 45 = .ok (.iaload, 1) := dk_46 (dk_at dksX4_reroute_1 23 rfl rfl)
theorem dX4_reroute_46 : decode cX4_reroute 46 = .ok (.istore_n 3, 1) := dk_62 (dk_at dksX4_reroute_2 0 rfl rfl)
theorem dX4_reroute_47 : decode cX4_reroute 47 = .ok (.aload_n 0, 1) := dk_42 (dk_at dksX4_reroute_2 1 rfl rfl)
theorem dX4_reroute_48 : decode cX4_reroute 48 = .ok (.getfield 80, 3) := dk_180 0 80 (dk_at dksX4_reroute_2 2 rfl rfl)
theorem dX4_reroute_51 : decode cX4_reroute 51 = .ok (.iload_n 1, 1) := dk_27 (dk_at dksX4_reroute_2 5 rfl rfl)
theorem dX4_reroute_52 : decode cX4_reroute 52 = .ok (.aaload, 1) := dk_50 (dk_at dksX4_reroute_2 6 rfl rfl)
theorem dX4_reroute_53 : decode cX4_reroute 53 = .ok (.iconst 0, 1) := dk_3 (dk_at dksX4_reroute_2 7 rfl rfl)
theorem dX4_reroute_54 : decode cX4_reroute 54 = .ok (.iload_n 2, 1) := dk_28 (dk_at dksX4_reroute_2 8 rfl rfl)
theorem dX4_reroute_55 : decode cX4_reroute 55 = .ok (.iastore, 1) := dk_79 (dk_at dksX4_reroute_2 9 rfl rfl)
theorem dX4_reroute_56 : decode cX4_reroute 56 = .ok (.iload_n 3, 1) := dk_29 (dk_at dksX4_reroute_2 10 rfl rfl)
theorem dX4_reroute_57 : decode cX4_reroute 57 = .ok (.ireturn, 1) := dk_172 (dk_at dksX4_reroute_2 11 rfl rfl)
abbrev cX4_later : ByteArray := prog_8_method_54_code
def yX4_later : MethodName := ⟨RX4, "later", "(I)I"⟩
def dkwX4_later_2 : List UInt8 := [181, 0, 95, 44, 83, 42, 180, 0, 95, 4, 100, 172]
abbrev dktX4_later_2 : List UInt8 := dkwX4_later_2 ++ []
def dkwX4_later_1 : List UInt8 := [180, 0, 80, 27, 50, 77, 42, 27, 182, 0, 244, 42, 180, 0, 80, 42, 89, 180, 0, 95, 90, 4, 96]
abbrev dktX4_later_1 : List UInt8 := dkwX4_later_1 ++ dktX4_later_2
def dkwX4_later_0 : List UInt8 := [42, 42, 27, 182, 0, 241, 153, 0, 7, 3, 167, 0, 4, 4, 182, 0, 215, 153, 0, 5, 3, 172, 42]
abbrev dktX4_later_0 : List UInt8 := dkwX4_later_0 ++ dktX4_later_1
theorem dksX4_later_0 : cX4_later.data.toList.drop 0 = dktX4_later_0 := by decide +kernel
theorem dksX4_later_1 : cX4_later.data.toList.drop 23 = dktX4_later_1 := dk_seg dksX4_later_0 23 rfl rfl
theorem dksX4_later_2 : cX4_later.data.toList.drop 46 = dktX4_later_2 := dk_seg dksX4_later_1 23 rfl rfl
theorem dX4_later_0 : decode cX4_later 0 = .ok (.aload_n 0, 1) := dk_42 (dk_at dksX4_later_0 0 rfl rfl)
theorem dX4_later_1 : decode cX4_later 1 = .ok (.aload_n 0, 1) := dk_42 (dk_at dksX4_later_0 1 rfl rfl)
theorem dX4_later_2 : decode cX4_later 2 = .ok (.iload_n 1, 1) := dk_27 (dk_at dksX4_later_0 2 rfl rfl)
theorem dX4_later_3 : decode cX4_later 3 = .ok (.invokevirtual 241, 3) := dk_182 0 241 (dk_at dksX4_later_0 3 rfl rfl)
theorem dX4_later_6 : decode cX4_later 6 = .ok (.ifCond .eq 7, 3) := dk_153 0 7 (dk_at dksX4_later_0 6 rfl rfl)
theorem dX4_later_9 : decode cX4_later 9 = .ok (.iconst 0, 1) := dk_3 (dk_at dksX4_later_0 9 rfl rfl)
theorem dX4_later_10 : decode cX4_later 10 = .ok (.goto 4, 3) := dk_167 0 4 (dk_at dksX4_later_0 10 rfl rfl)
theorem dX4_later_13 : decode cX4_later 13 = .ok (.iconst 1, 1) := dk_4 (dk_at dksX4_later_0 13 rfl rfl)
theorem dX4_later_14 : decode cX4_later 14 = .ok (.invokevirtual 215, 3) := dk_182 0 215 (dk_at dksX4_later_0 14 rfl rfl)
theorem dX4_later_17 : decode cX4_later 17 = .ok (.ifCond .eq 5, 3) := dk_153 0 5 (dk_at dksX4_later_0 17 rfl rfl)
theorem dX4_later_20 : decode cX4_later 20 = .ok (.iconst 0, 1) := dk_3 (dk_at dksX4_later_0 20 rfl rfl)
theorem dX4_later_21 : decode cX4_later 21 = .ok (.ireturn, 1) := dk_172 (dk_at dksX4_later_0 21 rfl rfl)
theorem dX4_later_22 : decode cX4_later 22 = .ok (.aload_n 0, 1) := dk_42 (dk_at dksX4_later_0 22 rfl rfl)
theorem dX4_later_23 : decode cX4_later 23 = .ok (.getfield 80, 3) := dk_180 0 80 (dk_at dksX4_later_1 0 rfl rfl)
theorem dX4_later_26 : decode cX4_later 26 = .ok (.iload_n 1, 1) := dk_27 (dk_at dksX4_later_1 3 rfl rfl)
theorem dX4_later_27 : decode cX4_later 27 = .ok (.aaload, 1) := dk_50 (dk_at dksX4_later_1 4 rfl rfl)
theorem dX4_later_28 : decode cX4_later 28 = .ok (.astore_n 2, 1) := dk_77 (dk_at dksX4_later_1 5 rfl rfl)
theorem dX4_later_29 : decode cX4_later 29 = .ok (.aload_n 0, 1) := dk_42 (dk_at dksX4_later_1 6 rfl rfl)
theorem dX4_later_30 : decode cX4_later 30 = .ok (.iload_n 1, 1) := dk_27 (dk_at dksX4_later_1 7 rfl rfl)
theorem dX4_later_31 : decode cX4_later 31 = .ok (.invokevirtual 244, 3) := dk_182 0 244 (dk_at dksX4_later_1 8 rfl rfl)
theorem dX4_later_34 : decode cX4_later 34 = .ok (.aload_n 0, 1) := dk_42 (dk_at dksX4_later_1 11 rfl rfl)
theorem dX4_later_35 : decode cX4_later 35 = .ok (.getfield 80, 3) := dk_180 0 80 (dk_at dksX4_later_1 12 rfl rfl)
theorem dX4_later_38 : decode cX4_later 38 = .ok (.aload_n 0, 1) := dk_42 (dk_at dksX4_later_1 15 rfl rfl)
theorem dX4_later_39 : decode cX4_later 39 = .ok (.dup, 1) := dk_89 (dk_at dksX4_later_1 16 rfl rfl)
theorem dX4_later_40 : decode cX4_later 40 = .ok (.getfield 95, 3) := dk_180 0 95 (dk_at dksX4_later_1 17 rfl rfl)
theorem dX4_later_43 : decode cX4_later 43 = .ok (.dup_x1, 1) := dk_90 (dk_at dksX4_later_1 20 rfl rfl)
theorem dX4_later_44 : decode cX4_later 44 = .ok (.iconst 1, 1) := dk_4 (dk_at dksX4_later_1 21 rfl rfl)
theorem dX4_later_45 : decode cX4_later 45 = .ok (.iadd, 1) := dk_96 (dk_at dksX4_later_1 22 rfl rfl)
theorem dX4_later_46 : decode cX4_later 46 = .ok (.putfield 95, 3) := dk_181 0 95 (dk_at dksX4_later_2 0 rfl rfl)
theorem dX4_later_49 : decode cX4_later 49 = .ok (.aload_n 2, 1) := dk_44 (dk_at dksX4_later_2 3 rfl rfl)
theorem dX4_later_50 : decode cX4_later 50 = .ok (.aastore, 1) := dk_83 (dk_at dksX4_later_2 4 rfl rfl)
theorem dX4_later_51 : decode cX4_later 51 = .ok (.aload_n 0, 1) := dk_42 (dk_at dksX4_later_2 5 rfl rfl)
theorem dX4_later_52 : decode cX4_later 52 = .ok (.getfield 95, 3) := dk_180 0 95 (dk_at dksX4_later_2 6 rfl rfl)
theorem dX4_later_55 : decode cX4_later 55 = .ok (.iconst 1, 1) := dk_4 (dk_at dksX4_later_2 9 rfl rfl)
theorem dX4_later_56 : decode cX4_later 56 = .ok (.isub, 1) := dk_100 (dk_at dksX4_later_2 10 rfl rfl)
theorem dX4_later_57 : decode cX4_later 57 = .ok (.ireturn, 1) := dk_172 (dk_at dksX4_later_2 11 rfl rfl)
abbrev cX4_now : ByteArray := prog_8_method_55_code
def yX4_now : MethodName := ⟨RX4, "now", "()I"⟩
theorem dX4_now_0 : decode cX4_now 0 = .ok (.aload_n 0, 1) := by decide +kernel
theorem dX4_now_1 : decode cX4_now 1 = .ok (.getfield 129, 3) := by decide +kernel
theorem dX4_now_4 : decode cX4_now 4 = .ok (.ireturn, 1) := by decide +kernel
abbrev cX4_letters : ByteArray := prog_8_method_56_code
def yX4_letters : MethodName := ⟨RX4, "letters", "()I"⟩
theorem dX4_letters_0 : decode cX4_letters 0 = .ok (.aload_n 0, 1) := by decide +kernel
theorem dX4_letters_1 : decode cX4_letters 1 = .ok (.getfield 95, 3) := by decide +kernel
theorem dX4_letters_4 : decode cX4_letters 4 = .ok (.ireturn, 1) := by decide +kernel
abbrev cX4_letter : ByteArray := prog_8_method_57_code
def yX4_letter : MethodName := ⟨RX4, "letter", "(II)I"⟩
def dkwX4_letter_2 : List UInt8 := [172]
abbrev dktX4_letter_2 : List UInt8 := dkwX4_letter_2 ++ []
def dkwX4_letter_1 : List UInt8 := [154, 0, 7, 5, 167, 0, 4, 3, 182, 0, 215, 153, 0, 5, 3, 172, 42, 180, 0, 80, 27, 50, 28, 46]
abbrev dktX4_letter_1 : List UInt8 := dkwX4_letter_1 ++ dktX4_letter_2
def dkwX4_letter_0 : List UInt8 := [42, 42, 27, 182, 0, 241, 154, 0, 7, 4, 167, 0, 20, 28, 133, 9, 20, 0, 222, 184, 0, 91]
abbrev dktX4_letter_0 : List UInt8 := dkwX4_letter_0 ++ dktX4_letter_1
theorem dksX4_letter_0 : cX4_letter.data.toList.drop 0 = dktX4_letter_0 := by decide +kernel
theorem dksX4_letter_1 : cX4_letter.data.toList.drop 22 = dktX4_letter_1 := dk_seg dksX4_letter_0 22 rfl rfl
theorem dksX4_letter_2 : cX4_letter.data.toList.drop 46 = dktX4_letter_2 := dk_seg dksX4_letter_1 24 rfl rfl
theorem dX4_letter_0 : decode cX4_letter 0 = .ok (.aload_n 0, 1) := dk_42 (dk_at dksX4_letter_0 0 rfl rfl)
theorem dX4_letter_1 : decode cX4_letter 1 = .ok (.aload_n 0, 1) := dk_42 (dk_at dksX4_letter_0 1 rfl rfl)
theorem dX4_letter_2 : decode cX4_letter 2 = .ok (.iload_n 1, 1) := dk_27 (dk_at dksX4_letter_0 2 rfl rfl)
theorem dX4_letter_3 : decode cX4_letter 3 = .ok (.invokevirtual 241, 3) := dk_182 0 241 (dk_at dksX4_letter_0 3 rfl rfl)
theorem dX4_letter_6 : decode cX4_letter 6 = .ok (.ifCond .ne 7, 3) := dk_154 0 7 (dk_at dksX4_letter_0 6 rfl rfl)
theorem dX4_letter_9 : decode cX4_letter 9 = .ok (.iconst 1, 1) := dk_4 (dk_at dksX4_letter_0 9 rfl rfl)
theorem dX4_letter_10 : decode cX4_letter 10 = .ok (.goto 20, 3) := dk_167 0 20 (dk_at dksX4_letter_0 10 rfl rfl)
theorem dX4_letter_13 : decode cX4_letter 13 = .ok (.iload_n 2, 1) := dk_28 (dk_at dksX4_letter_0 13 rfl rfl)
theorem dX4_letter_14 : decode cX4_letter 14 = .ok (.i2l, 1) := dk_133 (dk_at dksX4_letter_0 14 rfl rfl)
theorem dX4_letter_15 : decode cX4_letter 15 = .ok (.lconst 0, 1) := dk_9 (dk_at dksX4_letter_0 15 rfl rfl)
theorem dX4_letter_16 : decode cX4_letter 16 = .ok (.ldc2_w 222, 3) := dk_20 0 222 (dk_at dksX4_letter_0 16 rfl rfl)
theorem dX4_letter_19 : decode cX4_letter 19 = .ok (.invokestatic 91, 3) := dk_184 0 91 (dk_at dksX4_letter_0 19 rfl rfl)
theorem dX4_letter_22 : decode cX4_letter 22 = .ok (.ifCond .ne 7, 3) := dk_154 0 7 (dk_at dksX4_letter_1 0 rfl rfl)
theorem dX4_letter_25 : decode cX4_letter 25 = .ok (.iconst 2, 1) := dk_5 (dk_at dksX4_letter_1 3 rfl rfl)
theorem dX4_letter_26 : decode cX4_letter 26 = .ok (.goto 4, 3) := dk_167 0 4 (dk_at dksX4_letter_1 4 rfl rfl)
theorem dX4_letter_29 : decode cX4_letter 29 = .ok (.iconst 0, 1) := dk_3 (dk_at dksX4_letter_1 7 rfl rfl)
theorem dX4_letter_30 : decode cX4_letter 30 = .ok (.invokevirtual 215, 3) := dk_182 0 215 (dk_at dksX4_letter_1 8 rfl rfl)
theorem dX4_letter_33 : decode cX4_letter 33 = .ok (.ifCond .eq 5, 3) := dk_153 0 5 (dk_at dksX4_letter_1 11 rfl rfl)
theorem dX4_letter_36 : decode cX4_letter 36 = .ok (.iconst 0, 1) := dk_3 (dk_at dksX4_letter_1 14 rfl rfl)
theorem dX4_letter_37 : decode cX4_letter 37 = .ok (.ireturn, 1) := dk_172 (dk_at dksX4_letter_1 15 rfl rfl)
theorem dX4_letter_38 : decode cX4_letter 38 = .ok (.aload_n 0, 1) := dk_42 (dk_at dksX4_letter_1 16 rfl rfl)
theorem dX4_letter_39 : decode cX4_letter 39 = .ok (.getfield 80, 3) := dk_180 0 80 (dk_at dksX4_letter_1 17 rfl rfl)
theorem dX4_letter_42 : decode cX4_letter 42 = .ok (.iload_n 1, 1) := dk_27 (dk_at dksX4_letter_1 20 rfl rfl)
theorem dX4_letter_43 : decode cX4_letter 43 = .ok (.aaload, 1) := dk_50 (dk_at dksX4_letter_1 21 rfl rfl)
theorem dX4_letter_44 : decode cX4_letter 44 = .ok (.iload_n 2, 1) := dk_28 (dk_at dksX4_letter_1 22 rfl rfl)
theorem dX4_letter_45 : decode cX4_letter 45 = .ok (.iaload, 1) := dk_46 (dk_at dksX4_letter_1 23 rfl rfl)
theorem dX4_letter_46 : decode cX4_letter 46 = .ok (.ireturn, 1) := dk_172 (dk_at dksX4_letter_2 0 rfl rfl)
abbrev cX4_isTurned : ByteArray := prog_8_method_58_code
def yX4_isTurned : MethodName := ⟨RX4, "isTurned", "(I)Z"⟩
def dkwX4_isTurned_1 : List UInt8 := [180, 0, 80, 27, 50, 182, 1, 15, 172]
abbrev dktX4_isTurned_1 : List UInt8 := dkwX4_isTurned_1 ++ []
def dkwX4_isTurned_0 : List UInt8 := [42, 42, 27, 182, 0, 241, 153, 0, 7, 3, 167, 0, 4, 4, 182, 0, 215, 153, 0, 5, 3, 172, 42, 42]
abbrev dktX4_isTurned_0 : List UInt8 := dkwX4_isTurned_0 ++ dktX4_isTurned_1
theorem dksX4_isTurned_0 : cX4_isTurned.data.toList.drop 0 = dktX4_isTurned_0 := by decide +kernel
theorem dksX4_isTurned_1 : cX4_isTurned.data.toList.drop 24 = dktX4_isTurned_1 := dk_seg dksX4_isTurned_0 24 rfl rfl
theorem dX4_isTurned_0 : decode cX4_isTurned 0 = .ok (.aload_n 0, 1) := dk_42 (dk_at dksX4_isTurned_0 0 rfl rfl)
theorem dX4_isTurned_1 : decode cX4_isTurned 1 = .ok (.aload_n 0, 1) := dk_42 (dk_at dksX4_isTurned_0 1 rfl rfl)
theorem dX4_isTurned_2 : decode cX4_isTurned 2 = .ok (.iload_n 1, 1) := dk_27 (dk_at dksX4_isTurned_0 2 rfl rfl)
theorem dX4_isTurned_3 : decode cX4_isTurned 3 = .ok (.invokevirtual 241, 3) := dk_182 0 241 (dk_at dksX4_isTurned_0 3 rfl rfl)
theorem dX4_isTurned_6 : decode cX4_isTurned 6 = .ok (.ifCond .eq 7, 3) := dk_153 0 7 (dk_at dksX4_isTurned_0 6 rfl rfl)
theorem dX4_isTurned_9 : decode cX4_isTurned 9 = .ok (.iconst 0, 1) := dk_3 (dk_at dksX4_isTurned_0 9 rfl rfl)
theorem dX4_isTurned_10 : decode cX4_isTurned 10 = .ok (.goto 4, 3) := dk_167 0 4 (dk_at dksX4_isTurned_0 10 rfl rfl)
theorem dX4_isTurned_13 : decode cX4_isTurned 13 = .ok (.iconst 1, 1) := dk_4 (dk_at dksX4_isTurned_0 13 rfl rfl)
theorem dX4_isTurned_14 : decode cX4_isTurned 14 = .ok (.invokevirtual 215, 3) := dk_182 0 215 (dk_at dksX4_isTurned_0 14 rfl rfl)
theorem dX4_isTurned_17 : decode cX4_isTurned 17 = .ok (.ifCond .eq 5, 3) := dk_153 0 5 (dk_at dksX4_isTurned_0 17 rfl rfl)
theorem dX4_isTurned_20 : decode cX4_isTurned 20 = .ok (.iconst 0, 1) := dk_3 (dk_at dksX4_isTurned_0 20 rfl rfl)
theorem dX4_isTurned_21 : decode cX4_isTurned 21 = .ok (.ireturn, 1) := dk_172 (dk_at dksX4_isTurned_0 21 rfl rfl)
theorem dX4_isTurned_22 : decode cX4_isTurned 22 = .ok (.aload_n 0, 1) := dk_42 (dk_at dksX4_isTurned_0 22 rfl rfl)
theorem dX4_isTurned_23 : decode cX4_isTurned 23 = .ok (.aload_n 0, 1) := dk_42 (dk_at dksX4_isTurned_0 23 rfl rfl)
theorem dX4_isTurned_24 : decode cX4_isTurned 24 = .ok (.getfield 80, 3) := dk_180 0 80 (dk_at dksX4_isTurned_1 0 rfl rfl)
theorem dX4_isTurned_27 : decode cX4_isTurned 27 = .ok (.iload_n 1, 1) := dk_27 (dk_at dksX4_isTurned_1 3 rfl rfl)
theorem dX4_isTurned_28 : decode cX4_isTurned 28 = .ok (.aaload, 1) := dk_50 (dk_at dksX4_isTurned_1 4 rfl rfl)
theorem dX4_isTurned_29 : decode cX4_isTurned 29 = .ok (.invokevirtual 271, 3) := dk_182 1 15 (dk_at dksX4_isTurned_1 5 rfl rfl)
theorem dX4_isTurned_32 : decode cX4_isTurned 32 = .ok (.ireturn, 1) := dk_172 (dk_at dksX4_isTurned_1 8 rfl rfl)
abbrev cX4_wasTurned : ByteArray := prog_8_method_19_code
def yX4_wasTurned : MethodName := ⟨RX4, "wasTurned", "([I)Z"⟩
def dkwX4_wasTurned_1 : List UInt8 := [46, 159, 0, 7, 4, 167, 0, 4, 3, 172]
abbrev dktX4_wasTurned_1 : List UInt8 := dkwX4_wasTurned_1 ++ []
def dkwX4_wasTurned_0 : List UInt8 := [43, 16, 15, 46, 2, 159, 0, 27, 43, 6, 43, 16, 15, 46, 96, 46, 43, 16, 9, 43, 16, 15, 46, 96]
abbrev dktX4_wasTurned_0 : List UInt8 := dkwX4_wasTurned_0 ++ dktX4_wasTurned_1
theorem dksX4_wasTurned_0 : cX4_wasTurned.data.toList.drop 0 = dktX4_wasTurned_0 := by decide +kernel
theorem dksX4_wasTurned_1 : cX4_wasTurned.data.toList.drop 24 = dktX4_wasTurned_1 := dk_seg dksX4_wasTurned_0 24 rfl rfl
theorem dX4_wasTurned_0 : decode cX4_wasTurned 0 = .ok (.aload_n 1, 1) := dk_43 (dk_at dksX4_wasTurned_0 0 rfl rfl)
theorem dX4_wasTurned_1 : decode cX4_wasTurned 1 = .ok (.bipush 15, 2) := dk_16 15 (dk_at dksX4_wasTurned_0 1 rfl rfl)
theorem dX4_wasTurned_3 : decode cX4_wasTurned 3 = .ok (.iaload, 1) := dk_46 (dk_at dksX4_wasTurned_0 3 rfl rfl)
theorem dX4_wasTurned_4 : decode cX4_wasTurned 4 = .ok (.iconst (-1), 1) := dk_2 (dk_at dksX4_wasTurned_0 4 rfl rfl)
theorem dX4_wasTurned_5 : decode cX4_wasTurned 5 = .ok (.if_icmp .eq 27, 3) := dk_159 0 27 (dk_at dksX4_wasTurned_0 5 rfl rfl)
theorem dX4_wasTurned_8 : decode cX4_wasTurned 8 = .ok (.aload_n 1, 1) := dk_43 (dk_at dksX4_wasTurned_0 8 rfl rfl)
theorem dX4_wasTurned_9 : decode cX4_wasTurned 9 = .ok (.iconst 3, 1) := dk_6 (dk_at dksX4_wasTurned_0 9 rfl rfl)
theorem dX4_wasTurned_10 : decode cX4_wasTurned 10 = .ok (.aload_n 1, 1) := dk_43 (dk_at dksX4_wasTurned_0 10 rfl rfl)
theorem dX4_wasTurned_11 : decode cX4_wasTurned 11 = .ok (.bipush 15, 2) := dk_16 15 (dk_at dksX4_wasTurned_0 11 rfl rfl)
theorem dX4_wasTurned_13 : decode cX4_wasTurned 13 = .ok (.iaload, 1) := dk_46 (dk_at dksX4_wasTurned_0 13 rfl rfl)
theorem dX4_wasTurned_14 : decode cX4_wasTurned 14 = .ok (.iadd, 1) := dk_96 (dk_at dksX4_wasTurned_0 14 rfl rfl)
theorem dX4_wasTurned_15 : decode cX4_wasTurned 15 = .ok (.iaload, 1) := dk_46 (dk_at dksX4_wasTurned_0 15 rfl rfl)
theorem dX4_wasTurned_16 : decode cX4_wasTurned 16 = .ok (.aload_n 1, 1) := dk_43 (dk_at dksX4_wasTurned_0 16 rfl rfl)
theorem dX4_wasTurned_17 : decode cX4_wasTurned 17 = .ok (.bipush 9, 2) := dk_16 9 (dk_at dksX4_wasTurned_0 17 rfl rfl)
theorem dX4_wasTurned_19 : decode cX4_wasTurned 19 = .ok (.aload_n 1, 1) := dk_43 (dk_at dksX4_wasTurned_0 19 rfl rfl)
theorem dX4_wasTurned_20 : decode cX4_wasTurned 20 = .ok (.bipush 15, 2) := dk_16 15 (dk_at dksX4_wasTurned_0 20 rfl rfl)
theorem dX4_wasTurned_22 : decode cX4_wasTurned 22 = .ok (.iaload, 1) := dk_46 (dk_at dksX4_wasTurned_0 22 rfl rfl)
theorem dX4_wasTurned_23 : decode cX4_wasTurned 23 = .ok (.iadd, 1) := dk_96 (dk_at dksX4_wasTurned_0 23 rfl rfl)
theorem dX4_wasTurned_24 : decode cX4_wasTurned 24 = .ok (.iaload, 1) := dk_46 (dk_at dksX4_wasTurned_1 0 rfl rfl)
theorem dX4_wasTurned_25 : decode cX4_wasTurned 25 = .ok (.if_icmp .eq 7, 3) := dk_159 0 7 (dk_at dksX4_wasTurned_1 1 rfl rfl)
theorem dX4_wasTurned_28 : decode cX4_wasTurned 28 = .ok (.iconst 1, 1) := dk_4 (dk_at dksX4_wasTurned_1 4 rfl rfl)
theorem dX4_wasTurned_29 : decode cX4_wasTurned 29 = .ok (.goto 4, 3) := dk_167 0 4 (dk_at dksX4_wasTurned_1 5 rfl rfl)
theorem dX4_wasTurned_32 : decode cX4_wasTurned 32 = .ok (.iconst 0, 1) := dk_3 (dk_at dksX4_wasTurned_1 8 rfl rfl)
theorem dX4_wasTurned_33 : decode cX4_wasTurned 33 = .ok (.ireturn, 1) := dk_172 (dk_at dksX4_wasTurned_1 9 rfl rfl)
abbrev cX4_address : ByteArray := prog_8_method_59_code
def yX4_address : MethodName := ⟨RX4, "address", "(I)I"⟩
def dkwX4_address_1 : List UInt8 := [180, 0, 13, 27, 46, 172]
abbrev dktX4_address_1 : List UInt8 := dkwX4_address_1 ++ []
def dkwX4_address_0 : List UInt8 := [42, 27, 184, 0, 98, 153, 0, 7, 3, 167, 0, 4, 4, 182, 0, 215, 153, 0, 5, 3, 172, 42]
abbrev dktX4_address_0 : List UInt8 := dkwX4_address_0 ++ dktX4_address_1
theorem dksX4_address_0 : cX4_address.data.toList.drop 0 = dktX4_address_0 := by decide +kernel
theorem dksX4_address_1 : cX4_address.data.toList.drop 22 = dktX4_address_1 := dk_seg dksX4_address_0 22 rfl rfl
theorem dX4_address_0 : decode cX4_address 0 = .ok (.aload_n 0, 1) := dk_42 (dk_at dksX4_address_0 0 rfl rfl)
theorem dX4_address_1 : decode cX4_address 1 = .ok (.iload_n 1, 1) := dk_27 (dk_at dksX4_address_0 1 rfl rfl)
theorem dX4_address_2 : decode cX4_address 2 = .ok (.invokestatic 98, 3) := dk_184 0 98 (dk_at dksX4_address_0 2 rfl rfl)
theorem dX4_address_5 : decode cX4_address 5 = .ok (.ifCond .eq 7, 3) := dk_153 0 7 (dk_at dksX4_address_0 5 rfl rfl)
theorem dX4_address_8 : decode cX4_address 8 = .ok (.iconst 0, 1) := dk_3 (dk_at dksX4_address_0 8 rfl rfl)
theorem dX4_address_9 : decode cX4_address 9 = .ok (.goto 4, 3) := dk_167 0 4 (dk_at dksX4_address_0 9 rfl rfl)
theorem dX4_address_12 : decode cX4_address 12 = .ok (.iconst 1, 1) := dk_4 (dk_at dksX4_address_0 12 rfl rfl)
theorem dX4_address_13 : decode cX4_address 13 = .ok (.invokevirtual 215, 3) := dk_182 0 215 (dk_at dksX4_address_0 13 rfl rfl)
theorem dX4_address_16 : decode cX4_address 16 = .ok (.ifCond .eq 5, 3) := dk_153 0 5 (dk_at dksX4_address_0 16 rfl rfl)
theorem dX4_address_19 : decode cX4_address 19 = .ok (.iconst 0, 1) := dk_3 (dk_at dksX4_address_0 19 rfl rfl)
theorem dX4_address_20 : decode cX4_address 20 = .ok (.ireturn, 1) := dk_172 (dk_at dksX4_address_0 20 rfl rfl)
theorem dX4_address_21 : decode cX4_address 21 = .ok (.aload_n 0, 1) := dk_42 (dk_at dksX4_address_0 21 rfl rfl)
theorem dX4_address_22 : decode cX4_address 22 = .ok (.getfield 13, 3) := dk_180 0 13 (dk_at dksX4_address_1 0 rfl rfl)
theorem dX4_address_25 : decode cX4_address 25 = .ok (.iload_n 1, 1) := dk_27 (dk_at dksX4_address_1 3 rfl rfl)
theorem dX4_address_26 : decode cX4_address 26 = .ok (.iaload, 1) := dk_46 (dk_at dksX4_address_1 4 rfl rfl)
theorem dX4_address_27 : decode cX4_address 27 = .ok (.ireturn, 1) := dk_172 (dk_at dksX4_address_1 5 rfl rfl)
abbrev cX4_known : ByteArray := prog_8_method_60_code
def yX4_known : MethodName := ⟨RX4, "known", "(II)I"⟩
def dkwX4_known_0 : List UInt8 := [42, 27, 28, 184, 0, 224, 182, 0, 215, 153, 0, 5, 3, 172, 42, 180, 0, 37, 27, 50, 28, 46, 172]
abbrev dktX4_known_0 : List UInt8 := dkwX4_known_0 ++ []
theorem dksX4_known_0 : cX4_known.data.toList.drop 0 = dktX4_known_0 := by decide +kernel
theorem dX4_known_0 : decode cX4_known 0 = .ok (.aload_n 0, 1) := dk_42 (dk_at dksX4_known_0 0 rfl rfl)
theorem dX4_known_1 : decode cX4_known 1 = .ok (.iload_n 1, 1) := dk_27 (dk_at dksX4_known_0 1 rfl rfl)
theorem dX4_known_2 : decode cX4_known 2 = .ok (.iload_n 2, 1) := dk_28 (dk_at dksX4_known_0 2 rfl rfl)
theorem dX4_known_3 : decode cX4_known 3 = .ok (.invokestatic 224, 3) := dk_184 0 224 (dk_at dksX4_known_0 3 rfl rfl)
theorem dX4_known_6 : decode cX4_known 6 = .ok (.invokevirtual 215, 3) := dk_182 0 215 (dk_at dksX4_known_0 6 rfl rfl)
theorem dX4_known_9 : decode cX4_known 9 = .ok (.ifCond .eq 5, 3) := dk_153 0 5 (dk_at dksX4_known_0 9 rfl rfl)
theorem dX4_known_12 : decode cX4_known 12 = .ok (.iconst 0, 1) := dk_3 (dk_at dksX4_known_0 12 rfl rfl)
theorem dX4_known_13 : decode cX4_known 13 = .ok (.ireturn, 1) := dk_172 (dk_at dksX4_known_0 13 rfl rfl)
theorem dX4_known_14 : decode cX4_known 14 = .ok (.aload_n 0, 1) := dk_42 (dk_at dksX4_known_0 14 rfl rfl)
theorem dX4_known_15 : decode cX4_known 15 = .ok (.getfield 37, 3) := dk_180 0 37 (dk_at dksX4_known_0 15 rfl rfl)
theorem dX4_known_18 : decode cX4_known 18 = .ok (.iload_n 1, 1) := dk_27 (dk_at dksX4_known_0 18 rfl rfl)
theorem dX4_known_19 : decode cX4_known 19 = .ok (.aaload, 1) := dk_50 (dk_at dksX4_known_0 19 rfl rfl)
theorem dX4_known_20 : decode cX4_known 20 = .ok (.iload_n 2, 1) := dk_28 (dk_at dksX4_known_0 20 rfl rfl)
theorem dX4_known_21 : decode cX4_known 21 = .ok (.iaload, 1) := dk_46 (dk_at dksX4_known_0 21 rfl rfl)
theorem dX4_known_22 : decode cX4_known 22 = .ok (.ireturn, 1) := dk_172 (dk_at dksX4_known_0 22 rfl rfl)
abbrev cX4_route : ByteArray := prog_8_method_61_code
def yX4_route : MethodName := ⟨RX4, "route", "(II)I"⟩
def dkwX4_route_1 : List UInt8 := [5, 167, 0, 4, 3, 182, 0, 215, 153, 0, 5, 3, 172, 42, 27, 28, 182, 0, 196, 172]
abbrev dktX4_route_1 : List UInt8 := dkwX4_route_1 ++ []
def dkwX4_route_0 : List UInt8 := [42, 27, 184, 0, 98, 154, 0, 7, 4, 167, 0, 20, 28, 133, 9, 20, 0, 220, 184, 0, 91, 154, 0, 7]
abbrev dktX4_route_0 : List UInt8 := dkwX4_route_0 ++ dktX4_route_1
theorem dksX4_route_0 : cX4_route.data.toList.drop 0 = dktX4_route_0 := by decide +kernel
theorem dksX4_route_1 : cX4_route.data.toList.drop 24 = dktX4_route_1 := dk_seg dksX4_route_0 24 rfl rfl
theorem dX4_route_0 : decode cX4_route 0 = .ok (.aload_n 0, 1) := dk_42 (dk_at dksX4_route_0 0 rfl rfl)
theorem dX4_route_1 : decode cX4_route 1 = .ok (.iload_n 1, 1) := dk_27 (dk_at dksX4_route_0 1 rfl rfl)
theorem dX4_route_2 : decode cX4_route 2 = .ok (.invokestatic 98, 3) := dk_184 0 98 (dk_at dksX4_route_0 2 rfl rfl)
theorem dX4_route_5 : decode cX4_route 5 = .ok (.ifCond .ne 7, 3) := dk_154 0 7 (dk_at dksX4_route_0 5 rfl rfl)
theorem dX4_route_8 : decode cX4_route 8 = .ok (.iconst 1, 1) := dk_4 (dk_at dksX4_route_0 8 rfl rfl)
theorem dX4_route_9 : decode cX4_route 9 = .ok (.goto 20, 3) := dk_167 0 20 (dk_at dksX4_route_0 9 rfl rfl)
theorem dX4_route_12 : decode cX4_route 12 = .ok (.iload_n 2, 1) := dk_28 (dk_at dksX4_route_0 12 rfl rfl)
theorem dX4_route_13 : decode cX4_route 13 = .ok (.i2l, 1) := dk_133 (dk_at dksX4_route_0 13 rfl rfl)
theorem dX4_route_14 : decode cX4_route 14 = .ok (.lconst 0, 1) := dk_9 (dk_at dksX4_route_0 14 rfl rfl)
theorem dX4_route_15 : decode cX4_route 15 = .ok (.ldc2_w 220, 3) := dk_20 0 220 (dk_at dksX4_route_0 15 rfl rfl)
theorem dX4_route_18 : decode cX4_route 18 = .ok (.invokestatic 91, 3) := dk_184 0 91 (dk_at dksX4_route_0 18 rfl rfl)
theorem dX4_route_21 : decode cX4_route 21 = .ok (.ifCond .ne 7, 3) := dk_154 0 7 (dk_at dksX4_route_0 21 rfl rfl)
theorem dX4_route_24 : decode cX4_route 24 = .ok (.iconst 2, 1) := dk_5 (dk_at dksX4_route_1 0 rfl rfl)
theorem dX4_route_25 : decode cX4_route 25 = .ok (.goto 4, 3) := dk_167 0 4 (dk_at dksX4_route_1 1 rfl rfl)
theorem dX4_route_28 : decode cX4_route 28 = .ok (.iconst 0, 1) := dk_3 (dk_at dksX4_route_1 4 rfl rfl)
theorem dX4_route_29 : decode cX4_route 29 = .ok (.invokevirtual 215, 3) := dk_182 0 215 (dk_at dksX4_route_1 5 rfl rfl)
theorem dX4_route_32 : decode cX4_route 32 = .ok (.ifCond .eq 5, 3) := dk_153 0 5 (dk_at dksX4_route_1 8 rfl rfl)
theorem dX4_route_35 : decode cX4_route 35 = .ok (.iconst 0, 1) := dk_3 (dk_at dksX4_route_1 11 rfl rfl)
theorem dX4_route_36 : decode cX4_route 36 = .ok (.ireturn, 1) := dk_172 (dk_at dksX4_route_1 12 rfl rfl)
theorem dX4_route_37 : decode cX4_route 37 = .ok (.aload_n 0, 1) := dk_42 (dk_at dksX4_route_1 13 rfl rfl)
theorem dX4_route_38 : decode cX4_route 38 = .ok (.iload_n 1, 1) := dk_27 (dk_at dksX4_route_1 14 rfl rfl)
theorem dX4_route_39 : decode cX4_route 39 = .ok (.iload_n 2, 1) := dk_28 (dk_at dksX4_route_1 15 rfl rfl)
theorem dX4_route_40 : decode cX4_route 40 = .ok (.invokevirtual 196, 3) := dk_182 0 196 (dk_at dksX4_route_1 16 rfl rfl)
theorem dX4_route_43 : decode cX4_route 43 = .ok (.ireturn, 1) := dk_172 (dk_at dksX4_route_1 19 rfl rfl)
abbrev cX4_session : ByteArray := prog_8_method_62_code
def yX4_session : MethodName := ⟨RX4, "session", "(IIII)I"⟩
def dkwX4_session_7 : List UInt8 := [25, 6, 16, 6, 46, 172]
abbrev dktX4_session_7 : List UInt8 := dkwX4_session_7 ++ []
def dkwX4_session_6 : List UInt8 := [172, 25, 6, 16, 7, 46, 172, 25, 6, 16, 8, 46, 172, 25, 6, 6, 46, 172, 25, 6, 7, 46, 172]
abbrev dktX4_session_6 : List UInt8 := dkwX4_session_6 ++ dktX4_session_7
def dkwX4_session_5 : List UInt8 := [25, 6, 3, 46, 172, 25, 6, 4, 46, 172, 42, 180, 0, 129, 25, 6, 5, 46, 100, 172, 25, 6, 8, 46]
abbrev dktX4_session_5 : List UInt8 := dkwX4_session_5 ++ dktX4_session_6
def dkwX4_session_4 : List UInt8 := [170, 0, 0, 0, 92, 0, 0, 0, 0, 0, 0, 0, 7, 0, 0, 0, 45, 0, 0, 0, 50, 0, 0, 0, 55, 0, 0, 0, 65, 0, 0, 0, 70, 0, 0, 0, 76, 0, 0, 0, 82, 0, 0, 0, 87]
abbrev dktX4_session_4 : List UInt8 := dkwX4_session_4 ++ dktX4_session_5
def dkwX4_session_3 : List UInt8 := [180, 0, 72, 27, 50, 28, 50, 29, 50, 58, 6, 21, 4]
abbrev dktX4_session_3 : List UInt8 := dkwX4_session_3 ++ dktX4_session_4
def dkwX4_session_2 : List UInt8 := [29, 182, 0, 166, 154, 0, 6, 6, 54, 5, 42, 21, 5, 182, 0, 215, 153, 0, 5, 3, 172, 42]
abbrev dktX4_session_2 : List UInt8 := dkwX4_session_2 ++ dktX4_session_3
def dkwX4_session_1 : List UInt8 := [21, 4, 133, 9, 20, 0, 222, 184, 0, 91, 154, 0, 6, 5, 54, 5, 21, 5, 154, 0, 16, 42, 27, 28]
abbrev dktX4_session_1 : List UInt8 := dkwX4_session_1 ++ dktX4_session_2
def dkwX4_session_0 : List UInt8 := [27, 28, 184, 0, 224, 54, 5, 21, 5, 154, 0, 31, 29, 133, 9, 20, 0, 89, 184, 0, 91, 153, 0, 16]
abbrev dktX4_session_0 : List UInt8 := dkwX4_session_0 ++ dktX4_session_1
theorem dksX4_session_0 : cX4_session.data.toList.drop 0 = dktX4_session_0 := by decide +kernel
theorem dksX4_session_1 : cX4_session.data.toList.drop 24 = dktX4_session_1 := dk_seg dksX4_session_0 24 rfl rfl
theorem dksX4_session_2 : cX4_session.data.toList.drop 48 = dktX4_session_2 := dk_seg dksX4_session_1 24 rfl rfl
theorem dksX4_session_3 : cX4_session.data.toList.drop 70 = dktX4_session_3 := dk_seg dksX4_session_2 22 rfl rfl
theorem dksX4_session_4 : cX4_session.data.toList.drop 83 = dktX4_session_4 := dk_seg dksX4_session_3 13 rfl rfl
theorem dksX4_session_5 : cX4_session.data.toList.drop 128 = dktX4_session_5 := dk_seg dksX4_session_4 45 rfl rfl
theorem dksX4_session_6 : cX4_session.data.toList.drop 152 = dktX4_session_6 := dk_seg dksX4_session_5 24 rfl rfl
theorem dksX4_session_7 : cX4_session.data.toList.drop 175 = dktX4_session_7 := dk_seg dksX4_session_6 23 rfl rfl
theorem dX4_session_0 : decode cX4_session 0 = .ok (.iload_n 1, 1) := dk_27 (dk_at dksX4_session_0 0 rfl rfl)
theorem dX4_session_1 : decode cX4_session 1 = .ok (.iload_n 2, 1) := dk_28 (dk_at dksX4_session_0 1 rfl rfl)
theorem dX4_session_2 : decode cX4_session 2 = .ok (.invokestatic 224, 3) := dk_184 0 224 (dk_at dksX4_session_0 2 rfl rfl)
theorem dX4_session_5 : decode cX4_session 5 = .ok (.istore 5, 2) := dk_54 5 (dk_at dksX4_session_0 5 rfl rfl)
theorem dX4_session_7 : decode cX4_session 7 = .ok (.iload 5, 2) := dk_21 5 (dk_at dksX4_session_0 7 rfl rfl)
theorem dX4_session_9 : decode cX4_session 9 = .ok (.ifCond .ne 31, 3) := dk_154 0 31 (dk_at dksX4_session_0 9 rfl rfl)
theorem dX4_session_12 : decode cX4_session 12 = .ok (.iload_n 3, 1) := dk_29 (dk_at dksX4_session_0 12 rfl rfl)
theorem dX4_session_13 : decode cX4_session 13 = .ok (.i2l, 1) := dk_133 (dk_at dksX4_session_0 13 rfl rfl)
theorem dX4_session_14 : decode cX4_session 14 = .ok (.lconst 0, 1) := dk_9 (dk_at dksX4_session_0 14 rfl rfl)
theorem dX4_session_15 : decode cX4_session 15 = .ok (.ldc2_w 89, 3) := dk_20 0 89 (dk_at dksX4_session_0 15 rfl rfl)
theorem dX4_session_18 : decode cX4_session 18 = .ok (.invokestatic 91, 3) := dk_184 0 91 (dk_at dksX4_session_0 18 rfl rfl)
theorem dX4_session_21 : decode cX4_session 21 = .ok (.ifCond .eq 16, 3) := dk_153 0 16 (dk_at dksX4_session_0 21 rfl rfl)
theorem dX4_session_24 : decode cX4_session 24 = .ok (.iload 4, 2) := dk_21 4 (dk_at dksX4_session_1 0 rfl rfl)
theorem dX4_session_26 : decode cX4_session 26 = .ok (.i2l, 1) := dk_133 (dk_at dksX4_session_1 2 rfl rfl)
theorem dX4_session_27 : decode cX4_session 27 = .ok (.lconst 0, 1) := dk_9 (dk_at dksX4_session_1 3 rfl rfl)
theorem dX4_session_28 : decode cX4_session 28 = .ok (.ldc2_w 222, 3) := dk_20 0 222 (dk_at dksX4_session_1 4 rfl rfl)
theorem dX4_session_31 : decode cX4_session 31 = .ok (.invokestatic 91, 3) := dk_184 0 91 (dk_at dksX4_session_1 7 rfl rfl)
theorem dX4_session_34 : decode cX4_session 34 = .ok (.ifCond .ne 6, 3) := dk_154 0 6 (dk_at dksX4_session_1 10 rfl rfl)
theorem dX4_session_37 : decode cX4_session 37 = .ok (.iconst 2, 1) := dk_5 (dk_at dksX4_session_1 13 rfl rfl)
theorem dX4_session_38 : decode cX4_session 38 = .ok (.istore 5, 2) := dk_54 5 (dk_at dksX4_session_1 14 rfl rfl)
theorem dX4_session_40 : decode cX4_session 40 = .ok (.iload 5, 2) := dk_21 5 (dk_at dksX4_session_1 16 rfl rfl)
theorem dX4_session_42 : decode cX4_session 42 = .ok (.ifCond .ne 16, 3) := dk_154 0 16 (dk_at dksX4_session_1 18 rfl rfl)
theorem dX4_session_45 : decode cX4_session 45 = .ok (.aload_n 0, 1) := dk_42 (dk_at dksX4_session_1 21 rfl rfl)
theorem dX4_session_46 : decode cX4_session 46 = .ok (.iload_n 1, 1) := dk_27 (dk_at dksX4_session_1 22 rfl rfl)
theorem dX4_session_47 : decode cX4_session 47 = .ok (.iload_n 2, 1) := dk_28 (dk_at dksX4_session_1 23 rfl rfl)
theorem dX4_session_48 : decode cX4_session 48 = .ok (.iload_n 3, 1) := dk_29 (dk_at dksX4_session_2 0 rfl rfl)
theorem dX4_session_49 : decode cX4_session 49 = .ok (.invokevirtual 166, 3) := dk_182 0 166 (dk_at dksX4_session_2 1 rfl rfl)
theorem dX4_session_52 : decode cX4_session 52 = .ok (.ifCond .ne 6, 3) := dk_154 0 6 (dk_at dksX4_session_2 4 rfl rfl)
theorem dX4_session_55 : decode cX4_session 55 = .ok (.iconst 3, 1) := dk_6 (dk_at dksX4_session_2 7 rfl rfl)
theorem dX4_session_56 : decode cX4_session 56 = .ok (.istore 5, 2) := dk_54 5 (dk_at dksX4_session_2 8 rfl rfl)
theorem dX4_session_58 : decode cX4_session 58 = .ok (.aload_n 0, 1) := dk_42 (dk_at dksX4_session_2 10 rfl rfl)
theorem dX4_session_59 : decode cX4_session 59 = .ok (.iload 5, 2) := dk_21 5 (dk_at dksX4_session_2 11 rfl rfl)
theorem dX4_session_61 : decode cX4_session 61 = .ok (.invokevirtual 215, 3) := dk_182 0 215 (dk_at dksX4_session_2 13 rfl rfl)
theorem dX4_session_64 : decode cX4_session 64 = .ok (.ifCond .eq 5, 3) := dk_153 0 5 (dk_at dksX4_session_2 16 rfl rfl)
theorem dX4_session_67 : decode cX4_session 67 = .ok (.iconst 0, 1) := dk_3 (dk_at dksX4_session_2 19 rfl rfl)
theorem dX4_session_68 : decode cX4_session 68 = .ok (.ireturn, 1) := dk_172 (dk_at dksX4_session_2 20 rfl rfl)
theorem dX4_session_69 : decode cX4_session 69 = .ok (.aload_n 0, 1) := dk_42 (dk_at dksX4_session_2 21 rfl rfl)
theorem dX4_session_70 : decode cX4_session 70 = .ok (.getfield 72, 3) := dk_180 0 72 (dk_at dksX4_session_3 0 rfl rfl)
theorem dX4_session_73 : decode cX4_session 73 = .ok (.iload_n 1, 1) := dk_27 (dk_at dksX4_session_3 3 rfl rfl)
theorem dX4_session_74 : decode cX4_session 74 = .ok (.aaload, 1) := dk_50 (dk_at dksX4_session_3 4 rfl rfl)
theorem dX4_session_75 : decode cX4_session 75 = .ok (.iload_n 2, 1) := dk_28 (dk_at dksX4_session_3 5 rfl rfl)
theorem dX4_session_76 : decode cX4_session 76 = .ok (.aaload, 1) := dk_50 (dk_at dksX4_session_3 6 rfl rfl)
theorem dX4_session_77 : decode cX4_session 77 = .ok (.iload_n 3, 1) := dk_29 (dk_at dksX4_session_3 7 rfl rfl)
theorem dX4_session_78 : decode cX4_session 78 = .ok (.aaload, 1) := dk_50 (dk_at dksX4_session_3 8 rfl rfl)
theorem dX4_session_79 : decode cX4_session 79 = .ok (.astore 6, 2) := dk_58 6 (dk_at dksX4_session_3 9 rfl rfl)
theorem dX4_session_81 : decode cX4_session 81 = .ok (.iload 4, 2) := dk_21 4 (dk_at dksX4_session_3 11 rfl rfl)
theorem dX4_session_83 : decode cX4_session 83 = .ok (.tableswitch 92 0 7 #[45, 50, 55, 65, 70, 76, 82, 87], 45) := by decide +kernel
theorem dX4_session_128 : decode cX4_session 128 = .ok (.aload 6, 2) := dk_25 6 (dk_at dksX4_session_5 0 rfl rfl)
theorem dX4_session_130 : decode cX4_session 130 = .ok (.iconst 0, 1) := dk_3 (dk_at dksX4_session_5 2 rfl rfl)
theorem dX4_session_131 : decode cX4_session 131 = .ok (.iaload, 1) := dk_46 (dk_at dksX4_session_5 3 rfl rfl)
theorem dX4_session_132 : decode cX4_session 132 = .ok (.ireturn, 1) := dk_172 (dk_at dksX4_session_5 4 rfl rfl)
theorem dX4_session_133 : decode cX4_session 133 = .ok (.aload 6, 2) := dk_25 6 (dk_at dksX4_session_5 5 rfl rfl)
theorem dX4_session_135 : decode cX4_session 135 = .ok (.iconst 1, 1) := dk_4 (dk_at dksX4_session_5 7 rfl rfl)
theorem dX4_session_136 : decode cX4_session 136 = .ok (.iaload, 1) := dk_46 (dk_at dksX4_session_5 8 rfl rfl)
theorem dX4_session_137 : decode cX4_session 137 = .ok (.ireturn, 1) := dk_172 (dk_at dksX4_session_5 9 rfl rfl)
theorem dX4_session_138 : decode cX4_session 138 = .ok (.aload_n 0, 1) := dk_42 (dk_at dksX4_session_5 10 rfl rfl)
theorem dX4_session_139 : decode cX4_session 139 = .ok (.getfield 129, 3) := dk_180 0 129 (dk_at dksX4_session_5 11 rfl rfl)
theorem dX4_session_142 : decode cX4_session 142 = .ok (.aload 6, 2) := dk_25 6 (dk_at dksX4_session_5 14 rfl rfl)
theorem dX4_session_144 : decode cX4_session 144 = .ok (.iconst 2, 1) := dk_5 (dk_at dksX4_session_5 16 rfl rfl)
theorem dX4_session_145 : decode cX4_session 145 = .ok (.iaload, 1) := dk_46 (dk_at dksX4_session_5 17 rfl rfl)
theorem dX4_session_146 : decode cX4_session 146 = .ok (.isub, 1) := dk_100 (dk_at dksX4_session_5 18 rfl rfl)
theorem dX4_session_147 : decode cX4_session 147 = .ok (.ireturn, 1) := dk_172 (dk_at dksX4_session_5 19 rfl rfl)
theorem dX4_session_148 : decode cX4_session 148 = .ok (.aload 6, 2) := dk_25 6 (dk_at dksX4_session_5 20 rfl rfl)
theorem dX4_session_150 : decode cX4_session 150 = .ok (.iconst 5, 1) := dk_8 (dk_at dksX4_session_5 22 rfl rfl)
theorem dX4_session_151 : decode cX4_session 151 = .ok (.iaload, 1) := dk_46 (dk_at dksX4_session_5 23 rfl rfl)
theorem dX4_session_152 : decode cX4_session 152 = .ok (.ireturn, 1) := dk_172 (dk_at dksX4_session_6 0 rfl rfl)
theorem dX4_session_153 : decode cX4_session 153 = .ok (.aload 6, 2) := dk_25 6 (dk_at dksX4_session_6 1 rfl rfl)
theorem dX4_session_155 : decode cX4_session 155 = .ok (.bipush 7, 2) := dk_16 7 (dk_at dksX4_session_6 3 rfl rfl)
theorem dX4_session_157 : decode cX4_session 157 = .ok (.iaload, 1) := dk_46 (dk_at dksX4_session_6 5 rfl rfl)
theorem dX4_session_158 : decode cX4_session 158 = .ok (.ireturn, 1) := dk_172 (dk_at dksX4_session_6 6 rfl rfl)
theorem dX4_session_159 : decode cX4_session 159 = .ok (.aload 6, 2) := dk_25 6 (dk_at dksX4_session_6 7 rfl rfl)
theorem dX4_session_161 : decode cX4_session 161 = .ok (.bipush 8, 2) := dk_16 8 (dk_at dksX4_session_6 9 rfl rfl)
theorem dX4_session_163 : decode cX4_session 163 = .ok (.iaload, 1) := dk_46 (dk_at dksX4_session_6 11 rfl rfl)
theorem dX4_session_164 : decode cX4_session 164 = .ok (.ireturn, 1) := dk_172 (dk_at dksX4_session_6 12 rfl rfl)
theorem dX4_session_165 : decode cX4_session 165 = .ok (.aload 6, 2) := dk_25 6 (dk_at dksX4_session_6 13 rfl rfl)
theorem dX4_session_167 : decode cX4_session 167 = .ok (.iconst 3, 1) := dk_6 (dk_at dksX4_session_6 15 rfl rfl)
theorem dX4_session_168 : decode cX4_session 168 = .ok (.iaload, 1) := dk_46 (dk_at dksX4_session_6 16 rfl rfl)
theorem dX4_session_169 : decode cX4_session 169 = .ok (.ireturn, 1) := dk_172 (dk_at dksX4_session_6 17 rfl rfl)
theorem dX4_session_170 : decode cX4_session 170 = .ok (.aload 6, 2) := dk_25 6 (dk_at dksX4_session_6 18 rfl rfl)
theorem dX4_session_172 : decode cX4_session 172 = .ok (.iconst 4, 1) := dk_7 (dk_at dksX4_session_6 20 rfl rfl)
theorem dX4_session_173 : decode cX4_session 173 = .ok (.iaload, 1) := dk_46 (dk_at dksX4_session_6 21 rfl rfl)
theorem dX4_session_174 : decode cX4_session 174 = .ok (.ireturn, 1) := dk_172 (dk_at dksX4_session_6 22 rfl rfl)
theorem dX4_session_175 : decode cX4_session 175 = .ok (.aload 6, 2) := dk_25 6 (dk_at dksX4_session_7 0 rfl rfl)
theorem dX4_session_177 : decode cX4_session 177 = .ok (.bipush 6, 2) := dk_16 6 (dk_at dksX4_session_7 2 rfl rfl)
theorem dX4_session_179 : decode cX4_session 179 = .ok (.iaload, 1) := dk_46 (dk_at dksX4_session_7 4 rfl rfl)
theorem dX4_session_180 : decode cX4_session 180 = .ok (.ireturn, 1) := dk_172 (dk_at dksX4_session_7 5 rfl rfl)
abbrev cX4_isUsable : ByteArray := prog_8_method_63_code
def yX4_isUsable : MethodName := ⟨RX4, "isUsable", "(II)Z"⟩
def dkwX4_isUsable_0 : List UInt8 := [42, 27, 28, 184, 0, 224, 182, 0, 215, 153, 0, 5, 3, 172, 42, 27, 28, 182, 0, 173, 172]
abbrev dktX4_isUsable_0 : List UInt8 := dkwX4_isUsable_0 ++ []
theorem dksX4_isUsable_0 : cX4_isUsable.data.toList.drop 0 = dktX4_isUsable_0 := by decide +kernel
theorem dX4_isUsable_0 : decode cX4_isUsable 0 = .ok (.aload_n 0, 1) := dk_42 (dk_at dksX4_isUsable_0 0 rfl rfl)
theorem dX4_isUsable_1 : decode cX4_isUsable 1 = .ok (.iload_n 1, 1) := dk_27 (dk_at dksX4_isUsable_0 1 rfl rfl)
theorem dX4_isUsable_2 : decode cX4_isUsable 2 = .ok (.iload_n 2, 1) := dk_28 (dk_at dksX4_isUsable_0 2 rfl rfl)
theorem dX4_isUsable_3 : decode cX4_isUsable 3 = .ok (.invokestatic 224, 3) := dk_184 0 224 (dk_at dksX4_isUsable_0 3 rfl rfl)
theorem dX4_isUsable_6 : decode cX4_isUsable 6 = .ok (.invokevirtual 215, 3) := dk_182 0 215 (dk_at dksX4_isUsable_0 6 rfl rfl)
theorem dX4_isUsable_9 : decode cX4_isUsable 9 = .ok (.ifCond .eq 5, 3) := dk_153 0 5 (dk_at dksX4_isUsable_0 9 rfl rfl)
theorem dX4_isUsable_12 : decode cX4_isUsable 12 = .ok (.iconst 0, 1) := dk_3 (dk_at dksX4_isUsable_0 12 rfl rfl)
theorem dX4_isUsable_13 : decode cX4_isUsable 13 = .ok (.ireturn, 1) := dk_172 (dk_at dksX4_isUsable_0 13 rfl rfl)
theorem dX4_isUsable_14 : decode cX4_isUsable 14 = .ok (.aload_n 0, 1) := dk_42 (dk_at dksX4_isUsable_0 14 rfl rfl)
theorem dX4_isUsable_15 : decode cX4_isUsable 15 = .ok (.iload_n 1, 1) := dk_27 (dk_at dksX4_isUsable_0 15 rfl rfl)
theorem dX4_isUsable_16 : decode cX4_isUsable 16 = .ok (.iload_n 2, 1) := dk_28 (dk_at dksX4_isUsable_0 16 rfl rfl)
theorem dX4_isUsable_17 : decode cX4_isUsable 17 = .ok (.invokevirtual 173, 3) := dk_182 0 173 (dk_at dksX4_isUsable_0 17 rfl rfl)
theorem dX4_isUsable_20 : decode cX4_isUsable 20 = .ok (.ireturn, 1) := dk_172 (dk_at dksX4_isUsable_0 20 rfl rfl)
abbrev cX4_flight : ByteArray := prog_8_method_64_code
def yX4_flight : MethodName := ⟨RX4, "flight", "(II)I"⟩
def dkwX4_flight_0 : List UInt8 := [42, 27, 28, 184, 0, 224, 182, 0, 215, 153, 0, 5, 3, 172, 42, 180, 0, 46, 27, 50, 28, 46, 172]
abbrev dktX4_flight_0 : List UInt8 := dkwX4_flight_0 ++ []
theorem dksX4_flight_0 : cX4_flight.data.toList.drop 0 = dktX4_flight_0 := by decide +kernel
theorem dX4_flight_0 : decode cX4_flight 0 = .ok (.aload_n 0, 1) := dk_42 (dk_at dksX4_flight_0 0 rfl rfl)
theorem dX4_flight_1 : decode cX4_flight 1 = .ok (.iload_n 1, 1) := dk_27 (dk_at dksX4_flight_0 1 rfl rfl)
theorem dX4_flight_2 : decode cX4_flight 2 = .ok (.iload_n 2, 1) := dk_28 (dk_at dksX4_flight_0 2 rfl rfl)
theorem dX4_flight_3 : decode cX4_flight 3 = .ok (.invokestatic 224, 3) := dk_184 0 224 (dk_at dksX4_flight_0 3 rfl rfl)
theorem dX4_flight_6 : decode cX4_flight 6 = .ok (.invokevirtual 215, 3) := dk_182 0 215 (dk_at dksX4_flight_0 6 rfl rfl)
theorem dX4_flight_9 : decode cX4_flight 9 = .ok (.ifCond .eq 5, 3) := dk_153 0 5 (dk_at dksX4_flight_0 9 rfl rfl)
theorem dX4_flight_12 : decode cX4_flight 12 = .ok (.iconst 0, 1) := dk_3 (dk_at dksX4_flight_0 12 rfl rfl)
theorem dX4_flight_13 : decode cX4_flight 13 = .ok (.ireturn, 1) := dk_172 (dk_at dksX4_flight_0 13 rfl rfl)
theorem dX4_flight_14 : decode cX4_flight 14 = .ok (.aload_n 0, 1) := dk_42 (dk_at dksX4_flight_0 14 rfl rfl)
theorem dX4_flight_15 : decode cX4_flight 15 = .ok (.getfield 46, 3) := dk_180 0 46 (dk_at dksX4_flight_0 15 rfl rfl)
theorem dX4_flight_18 : decode cX4_flight 18 = .ok (.iload_n 1, 1) := dk_27 (dk_at dksX4_flight_0 18 rfl rfl)
theorem dX4_flight_19 : decode cX4_flight 19 = .ok (.aaload, 1) := dk_50 (dk_at dksX4_flight_0 19 rfl rfl)
theorem dX4_flight_20 : decode cX4_flight 20 = .ok (.iload_n 2, 1) := dk_28 (dk_at dksX4_flight_0 20 rfl rfl)
theorem dX4_flight_21 : decode cX4_flight 21 = .ok (.iaload, 1) := dk_46 (dk_at dksX4_flight_0 21 rfl rfl)
theorem dX4_flight_22 : decode cX4_flight 22 = .ok (.ireturn, 1) := dk_172 (dk_at dksX4_flight_0 22 rfl rfl)
abbrev cX4_waiting : ByteArray := prog_8_method_65_code
def yX4_waiting : MethodName := ⟨RX4, "waiting", "(II)I"⟩
def dkwX4_waiting_0 : List UInt8 := [42, 27, 28, 184, 0, 224, 182, 0, 215, 153, 0, 5, 3, 172, 42, 180, 0, 64, 27, 50, 28, 46, 172]
abbrev dktX4_waiting_0 : List UInt8 := dkwX4_waiting_0 ++ []
theorem dksX4_waiting_0 : cX4_waiting.data.toList.drop 0 = dktX4_waiting_0 := by decide +kernel
theorem dX4_waiting_0 : decode cX4_waiting 0 = .ok (.aload_n 0, 1) := dk_42 (dk_at dksX4_waiting_0 0 rfl rfl)
theorem dX4_waiting_1 : decode cX4_waiting 1 = .ok (.iload_n 1, 1) := dk_27 (dk_at dksX4_waiting_0 1 rfl rfl)
theorem dX4_waiting_2 : decode cX4_waiting 2 = .ok (.iload_n 2, 1) := dk_28 (dk_at dksX4_waiting_0 2 rfl rfl)
theorem dX4_waiting_3 : decode cX4_waiting 3 = .ok (.invokestatic 224, 3) := dk_184 0 224 (dk_at dksX4_waiting_0 3 rfl rfl)
theorem dX4_waiting_6 : decode cX4_waiting 6 = .ok (.invokevirtual 215, 3) := dk_182 0 215 (dk_at dksX4_waiting_0 6 rfl rfl)
theorem dX4_waiting_9 : decode cX4_waiting 9 = .ok (.ifCond .eq 5, 3) := dk_153 0 5 (dk_at dksX4_waiting_0 9 rfl rfl)
theorem dX4_waiting_12 : decode cX4_waiting 12 = .ok (.iconst 0, 1) := dk_3 (dk_at dksX4_waiting_0 12 rfl rfl)
theorem dX4_waiting_13 : decode cX4_waiting 13 = .ok (.ireturn, 1) := dk_172 (dk_at dksX4_waiting_0 13 rfl rfl)
theorem dX4_waiting_14 : decode cX4_waiting 14 = .ok (.aload_n 0, 1) := dk_42 (dk_at dksX4_waiting_0 14 rfl rfl)
theorem dX4_waiting_15 : decode cX4_waiting 15 = .ok (.getfield 64, 3) := dk_180 0 64 (dk_at dksX4_waiting_0 15 rfl rfl)
theorem dX4_waiting_18 : decode cX4_waiting 18 = .ok (.iload_n 1, 1) := dk_27 (dk_at dksX4_waiting_0 18 rfl rfl)
theorem dX4_waiting_19 : decode cX4_waiting 19 = .ok (.aaload, 1) := dk_50 (dk_at dksX4_waiting_0 19 rfl rfl)
theorem dX4_waiting_20 : decode cX4_waiting 20 = .ok (.iload_n 2, 1) := dk_28 (dk_at dksX4_waiting_0 20 rfl rfl)
theorem dX4_waiting_21 : decode cX4_waiting 21 = .ok (.iaload, 1) := dk_46 (dk_at dksX4_waiting_0 21 rfl rfl)
theorem dX4_waiting_22 : decode cX4_waiting 22 = .ok (.ireturn, 1) := dk_172 (dk_at dksX4_waiting_0 22 rfl rfl)
abbrev cX4_cookie : ByteArray := prog_8_method_66_code
def yX4_cookie : MethodName := ⟨RX4, "cookie", "(II)I"⟩
def dkwX4_cookie_1 : List UInt8 := [180, 0, 58, 27, 50, 28, 46, 167, 0, 4, 2, 172]
abbrev dktX4_cookie_1 : List UInt8 := dkwX4_cookie_1 ++ []
def dkwX4_cookie_0 : List UInt8 := [42, 27, 28, 184, 0, 224, 182, 0, 215, 153, 0, 5, 3, 172, 42, 27, 28, 182, 0, 158, 153, 0, 14, 42]
abbrev dktX4_cookie_0 : List UInt8 := dkwX4_cookie_0 ++ dktX4_cookie_1
theorem dksX4_cookie_0 : cX4_cookie.data.toList.drop 0 = dktX4_cookie_0 := by decide +kernel
theorem dksX4_cookie_1 : cX4_cookie.data.toList.drop 24 = dktX4_cookie_1 := dk_seg dksX4_cookie_0 24 rfl rfl
theorem dX4_cookie_0 : decode cX4_cookie 0 = .ok (.aload_n 0, 1) := dk_42 (dk_at dksX4_cookie_0 0 rfl rfl)
theorem dX4_cookie_1 : decode cX4_cookie 1 = .ok (.iload_n 1, 1) := dk_27 (dk_at dksX4_cookie_0 1 rfl rfl)
theorem dX4_cookie_2 : decode cX4_cookie 2 = .ok (.iload_n 2, 1) := dk_28 (dk_at dksX4_cookie_0 2 rfl rfl)
theorem dX4_cookie_3 : decode cX4_cookie 3 = .ok (.invokestatic 224, 3) := dk_184 0 224 (dk_at dksX4_cookie_0 3 rfl rfl)
theorem dX4_cookie_6 : decode cX4_cookie 6 = .ok (.invokevirtual 215, 3) := dk_182 0 215 (dk_at dksX4_cookie_0 6 rfl rfl)
theorem dX4_cookie_9 : decode cX4_cookie 9 = .ok (.ifCond .eq 5, 3) := dk_153 0 5 (dk_at dksX4_cookie_0 9 rfl rfl)
theorem dX4_cookie_12 : decode cX4_cookie 12 = .ok (.iconst 0, 1) := dk_3 (dk_at dksX4_cookie_0 12 rfl rfl)
theorem dX4_cookie_13 : decode cX4_cookie 13 = .ok (.ireturn, 1) := dk_172 (dk_at dksX4_cookie_0 13 rfl rfl)
theorem dX4_cookie_14 : decode cX4_cookie 14 = .ok (.aload_n 0, 1) := dk_42 (dk_at dksX4_cookie_0 14 rfl rfl)
theorem dX4_cookie_15 : decode cX4_cookie 15 = .ok (.iload_n 1, 1) := dk_27 (dk_at dksX4_cookie_0 15 rfl rfl)
theorem dX4_cookie_16 : decode cX4_cookie 16 = .ok (.iload_n 2, 1) := dk_28 (dk_at dksX4_cookie_0 16 rfl rfl)
theorem dX4_cookie_17 : decode cX4_cookie 17 = .ok (.invokevirtual 158, 3) := dk_182 0 158 (dk_at dksX4_cookie_0 17 rfl rfl)
theorem dX4_cookie_20 : decode cX4_cookie 20 = .ok (.ifCond .eq 14, 3) := dk_153 0 14 (dk_at dksX4_cookie_0 20 rfl rfl)
theorem dX4_cookie_23 : decode cX4_cookie 23 = .ok (.aload_n 0, 1) := dk_42 (dk_at dksX4_cookie_0 23 rfl rfl)
theorem dX4_cookie_24 : decode cX4_cookie 24 = .ok (.getfield 58, 3) := dk_180 0 58 (dk_at dksX4_cookie_1 0 rfl rfl)
theorem dX4_cookie_27 : decode cX4_cookie 27 = .ok (.iload_n 1, 1) := dk_27 (dk_at dksX4_cookie_1 3 rfl rfl)
theorem dX4_cookie_28 : decode cX4_cookie 28 = .ok (.aaload, 1) := dk_50 (dk_at dksX4_cookie_1 4 rfl rfl)
theorem dX4_cookie_29 : decode cX4_cookie 29 = .ok (.iload_n 2, 1) := dk_28 (dk_at dksX4_cookie_1 5 rfl rfl)
theorem dX4_cookie_30 : decode cX4_cookie 30 = .ok (.iaload, 1) := dk_46 (dk_at dksX4_cookie_1 6 rfl rfl)
theorem dX4_cookie_31 : decode cX4_cookie 31 = .ok (.goto 4, 3) := dk_167 0 4 (dk_at dksX4_cookie_1 7 rfl rfl)
theorem dX4_cookie_34 : decode cX4_cookie 34 = .ok (.iconst (-1), 1) := dk_2 (dk_at dksX4_cookie_1 10 rfl rfl)
theorem dX4_cookie_35 : decode cX4_cookie 35 = .ok (.ireturn, 1) := dk_172 (dk_at dksX4_cookie_1 11 rfl rfl)
abbrev cX4_stamp : ByteArray := prog_8_method_67_code
def yX4_stamp : MethodName := ⟨RX4, "stamp", "(IIZ)I"⟩
def dkwX4_stamp_1 : List UInt8 := [28, 46, 167, 0, 11, 42, 180, 0, 40, 27, 50, 28, 46, 172]
abbrev dktX4_stamp_1 : List UInt8 := dkwX4_stamp_1 ++ []
def dkwX4_stamp_0 : List UInt8 := [42, 27, 28, 184, 0, 224, 182, 0, 215, 153, 0, 5, 3, 172, 29, 153, 0, 14, 42, 180, 0, 43, 27, 50]
abbrev dktX4_stamp_0 : List UInt8 := dkwX4_stamp_0 ++ dktX4_stamp_1
theorem dksX4_stamp_0 : cX4_stamp.data.toList.drop 0 = dktX4_stamp_0 := by decide +kernel
theorem dksX4_stamp_1 : cX4_stamp.data.toList.drop 24 = dktX4_stamp_1 := dk_seg dksX4_stamp_0 24 rfl rfl
theorem dX4_stamp_0 : decode cX4_stamp 0 = .ok (.aload_n 0, 1) := dk_42 (dk_at dksX4_stamp_0 0 rfl rfl)
theorem dX4_stamp_1 : decode cX4_stamp 1 = .ok (.iload_n 1, 1) := dk_27 (dk_at dksX4_stamp_0 1 rfl rfl)
theorem dX4_stamp_2 : decode cX4_stamp 2 = .ok (.iload_n 2, 1) := dk_28 (dk_at dksX4_stamp_0 2 rfl rfl)
theorem dX4_stamp_3 : decode cX4_stamp 3 = .ok (.invokestatic 224, 3) := dk_184 0 224 (dk_at dksX4_stamp_0 3 rfl rfl)
theorem dX4_stamp_6 : decode cX4_stamp 6 = .ok (.invokevirtual 215, 3) := dk_182 0 215 (dk_at dksX4_stamp_0 6 rfl rfl)
theorem dX4_stamp_9 : decode cX4_stamp 9 = .ok (.ifCond .eq 5, 3) := dk_153 0 5 (dk_at dksX4_stamp_0 9 rfl rfl)
theorem dX4_stamp_12 : decode cX4_stamp 12 = .ok (.iconst 0, 1) := dk_3 (dk_at dksX4_stamp_0 12 rfl rfl)
theorem dX4_stamp_13 : decode cX4_stamp 13 = .ok (.ireturn, 1) := dk_172 (dk_at dksX4_stamp_0 13 rfl rfl)
theorem dX4_stamp_14 : decode cX4_stamp 14 = .ok (.iload_n 3, 1) := dk_29 (dk_at dksX4_stamp_0 14 rfl rfl)
theorem dX4_stamp_15 : decode cX4_stamp 15 = .ok (.ifCond .eq 14, 3) := dk_153 0 14 (dk_at dksX4_stamp_0 15 rfl rfl)
theorem dX4_stamp_18 : decode cX4_stamp 18 = .ok (.aload_n 0, 1) := dk_42 (dk_at dksX4_stamp_0 18 rfl rfl)
theorem dX4_stamp_19 : decode cX4_stamp 19 = .ok (.getfield 43, 3) := dk_180 0 43 (dk_at dksX4_stamp_0 19 rfl rfl)
theorem dX4_stamp_22 : decode cX4_stamp 22 = .ok (.iload_n 1, 1) := dk_27 (dk_at dksX4_stamp_0 22 rfl rfl)
theorem dX4_stamp_23 : decode cX4_stamp 23 = .ok (.aaload, 1) := dk_50 (dk_at dksX4_stamp_0 23 rfl rfl)
theorem dX4_stamp_24 : decode cX4_stamp 24 = .ok (.iload_n 2, 1) := dk_28 (dk_at dksX4_stamp_1 0 rfl rfl)
theorem dX4_stamp_25 : decode cX4_stamp 25 = .ok (.iaload, 1) := dk_46 (dk_at dksX4_stamp_1 1 rfl rfl)
theorem dX4_stamp_26 : decode cX4_stamp 26 = .ok (.goto 11, 3) := dk_167 0 11 (dk_at dksX4_stamp_1 2 rfl rfl)
theorem dX4_stamp_29 : decode cX4_stamp 29 = .ok (.aload_n 0, 1) := dk_42 (dk_at dksX4_stamp_1 5 rfl rfl)
theorem dX4_stamp_30 : decode cX4_stamp 30 = .ok (.getfield 40, 3) := dk_180 0 40 (dk_at dksX4_stamp_1 6 rfl rfl)
theorem dX4_stamp_33 : decode cX4_stamp 33 = .ok (.iload_n 1, 1) := dk_27 (dk_at dksX4_stamp_1 9 rfl rfl)
theorem dX4_stamp_34 : decode cX4_stamp 34 = .ok (.aaload, 1) := dk_50 (dk_at dksX4_stamp_1 10 rfl rfl)
theorem dX4_stamp_35 : decode cX4_stamp 35 = .ok (.iload_n 2, 1) := dk_28 (dk_at dksX4_stamp_1 11 rfl rfl)
theorem dX4_stamp_36 : decode cX4_stamp 36 = .ok (.iaload, 1) := dk_46 (dk_at dksX4_stamp_1 12 rfl rfl)
theorem dX4_stamp_37 : decode cX4_stamp 37 = .ok (.ireturn, 1) := dk_172 (dk_at dksX4_stamp_1 13 rfl rfl)
abbrev cX4_outs : ByteArray := prog_8_method_68_code
def yX4_outs : MethodName := ⟨RX4, "outs", "(I)I"⟩
def dkwX4_outs_1 : List UInt8 := [180, 0, 20, 27, 46, 172]
abbrev dktX4_outs_1 : List UInt8 := dkwX4_outs_1 ++ []
def dkwX4_outs_0 : List UInt8 := [42, 27, 184, 0, 98, 153, 0, 7, 3, 167, 0, 4, 4, 182, 0, 215, 153, 0, 5, 3, 172, 42]
abbrev dktX4_outs_0 : List UInt8 := dkwX4_outs_0 ++ dktX4_outs_1
theorem dksX4_outs_0 : cX4_outs.data.toList.drop 0 = dktX4_outs_0 := by decide +kernel
theorem dksX4_outs_1 : cX4_outs.data.toList.drop 22 = dktX4_outs_1 := dk_seg dksX4_outs_0 22 rfl rfl
theorem dX4_outs_0 : decode cX4_outs 0 = .ok (.aload_n 0, 1) := dk_42 (dk_at dksX4_outs_0 0 rfl rfl)
theorem dX4_outs_1 : decode cX4_outs 1 = .ok (.iload_n 1, 1) := dk_27 (dk_at dksX4_outs_0 1 rfl rfl)
theorem dX4_outs_2 : decode cX4_outs 2 = .ok (.invokestatic 98, 3) := dk_184 0 98 (dk_at dksX4_outs_0 2 rfl rfl)
theorem dX4_outs_5 : decode cX4_outs 5 = .ok (.ifCond .eq 7, 3) := dk_153 0 7 (dk_at dksX4_outs_0 5 rfl rfl)
theorem dX4_outs_8 : decode cX4_outs 8 = .ok (.iconst 0, 1) := dk_3 (dk_at dksX4_outs_0 8 rfl rfl)
theorem dX4_outs_9 : decode cX4_outs 9 = .ok (.goto 4, 3) := dk_167 0 4 (dk_at dksX4_outs_0 9 rfl rfl)
theorem dX4_outs_12 : decode cX4_outs 12 = .ok (.iconst 1, 1) := dk_4 (dk_at dksX4_outs_0 12 rfl rfl)
theorem dX4_outs_13 : decode cX4_outs 13 = .ok (.invokevirtual 215, 3) := dk_182 0 215 (dk_at dksX4_outs_0 13 rfl rfl)
theorem dX4_outs_16 : decode cX4_outs 16 = .ok (.ifCond .eq 5, 3) := dk_153 0 5 (dk_at dksX4_outs_0 16 rfl rfl)
theorem dX4_outs_19 : decode cX4_outs 19 = .ok (.iconst 0, 1) := dk_3 (dk_at dksX4_outs_0 19 rfl rfl)
theorem dX4_outs_20 : decode cX4_outs 20 = .ok (.ireturn, 1) := dk_172 (dk_at dksX4_outs_0 20 rfl rfl)
theorem dX4_outs_21 : decode cX4_outs 21 = .ok (.aload_n 0, 1) := dk_42 (dk_at dksX4_outs_0 21 rfl rfl)
theorem dX4_outs_22 : decode cX4_outs 22 = .ok (.getfield 20, 3) := dk_180 0 20 (dk_at dksX4_outs_1 0 rfl rfl)
theorem dX4_outs_25 : decode cX4_outs 25 = .ok (.iload_n 1, 1) := dk_27 (dk_at dksX4_outs_1 3 rfl rfl)
theorem dX4_outs_26 : decode cX4_outs 26 = .ok (.iaload, 1) := dk_46 (dk_at dksX4_outs_1 4 rfl rfl)
theorem dX4_outs_27 : decode cX4_outs 27 = .ok (.ireturn, 1) := dk_172 (dk_at dksX4_outs_1 5 rfl rfl)
abbrev cX4_out : ByteArray := prog_8_method_69_code
def yX4_out : MethodName := ⟨RX4, "out", "(III)I"⟩
def dkwX4_out_4 : List UInt8 := [21, 4, 132, 4, 255, 154, 0, 10, 25, 8, 4, 29, 96, 46, 172, 132, 7, 1, 167, 255, 216, 3, 172]
abbrev dktX4_out_4 : List UInt8 := dkwX4_out_4 ++ []
def dkwX4_out_3 : List UInt8 := [54, 7, 21, 7, 21, 6, 162, 0, 39, 25, 5, 21, 7, 50, 58, 8, 25, 8, 3, 46, 27, 160, 0, 18]
abbrev dktX4_out_3 : List UInt8 := dkwX4_out_3 ++ dktX4_out_4
def dkwX4_out_2 : List UInt8 := [182, 0, 215, 153, 0, 5, 3, 172, 28, 54, 4, 42, 180, 0, 83, 58, 5, 25, 5, 190, 54, 6, 3]
abbrev dktX4_out_2 : List UInt8 := dkwX4_out_2 ++ dktX4_out_3
def dkwX4_out_1 : List UInt8 := [154, 0, 7, 4, 167, 0, 20, 29, 133, 9, 20, 1, 19, 184, 0, 91, 154, 0, 7, 5, 167, 0, 4, 3]
abbrev dktX4_out_1 : List UInt8 := dkwX4_out_1 ++ dktX4_out_2
def dkwX4_out_0 : List UInt8 := [42, 27, 184, 0, 98, 153, 0, 21, 28, 133, 9, 42, 180, 0, 20, 27, 46, 4, 100, 133, 184, 0, 91]
abbrev dktX4_out_0 : List UInt8 := dkwX4_out_0 ++ dktX4_out_1
theorem dksX4_out_0 : cX4_out.data.toList.drop 0 = dktX4_out_0 := by decide +kernel
theorem dksX4_out_1 : cX4_out.data.toList.drop 23 = dktX4_out_1 := dk_seg dksX4_out_0 23 rfl rfl
theorem dksX4_out_2 : cX4_out.data.toList.drop 47 = dktX4_out_2 := dk_seg dksX4_out_1 24 rfl rfl
theorem dksX4_out_3 : cX4_out.data.toList.drop 70 = dktX4_out_3 := dk_seg dksX4_out_2 23 rfl rfl
theorem dksX4_out_4 : cX4_out.data.toList.drop 94 = dktX4_out_4 := dk_seg dksX4_out_3 24 rfl rfl
theorem dX4_out_0 : decode cX4_out 0 = .ok (.aload_n 0, 1) := dk_42 (dk_at dksX4_out_0 0 rfl rfl)
theorem dX4_out_1 : decode cX4_out 1 = .ok (.iload_n 1, 1) := dk_27 (dk_at dksX4_out_0 1 rfl rfl)
theorem dX4_out_2 : decode cX4_out 2 = .ok (.invokestatic 98, 3) := dk_184 0 98 (dk_at dksX4_out_0 2 rfl rfl)
theorem dX4_out_5 : decode cX4_out 5 = .ok (.ifCond .eq 21, 3) := dk_153 0 21 (dk_at dksX4_out_0 5 rfl rfl)
theorem dX4_out_8 : decode cX4_out 8 = .ok (.iload_n 2, 1) := dk_28 (dk_at dksX4_out_0 8 rfl rfl)
theorem dX4_out_9 : decode cX4_out 9 = .ok (.i2l, 1) := dk_133 (dk_at dksX4_out_0 9 rfl rfl)
theorem dX4_out_10 : decode cX4_out 10 = .ok (.lconst 0, 1) := dk_9 (dk_at dksX4_out_0 10 rfl rfl)
theorem dX4_out_11 : decode cX4_out 11 = .ok (.aload_n 0, 1) := dk_42 (dk_at dksX4_out_0 11 rfl rfl)
theorem dX4_out_12 : decode cX4_out 12 = .ok (.getfield 20, 3) := dk_180 0 20 (dk_at dksX4_out_0 12 rfl rfl)
theorem dX4_out_15 : decode cX4_out 15 = .ok (.iload_n 1, 1) := dk_27 (dk_at dksX4_out_0 15 rfl rfl)
theorem dX4_out_16 : decode cX4_out 16 = .ok (.iaload, 1) := dk_46 (dk_at dksX4_out_0 16 rfl rfl)
theorem dX4_out_17 : decode cX4_out 17 = .ok (.iconst 1, 1) := dk_4 (dk_at dksX4_out_0 17 rfl rfl)
theorem dX4_out_18 : decode cX4_out 18 = .ok (.isub, 1) := dk_100 (dk_at dksX4_out_0 18 rfl rfl)
theorem dX4_out_19 : decode cX4_out 19 = .ok (.i2l, 1) := dk_133 (dk_at dksX4_out_0 19 rfl rfl)
theorem dX4_out_20 : decode cX4_out 20 = .ok (.invokestatic 91, 3) := dk_184 0 91 (dk_at dksX4_out_0 20 rfl rfl)
theorem dX4_out_23 : decode cX4_out 23 = .ok (.ifCond .ne 7, 3) := dk_154 0 7 (dk_at dksX4_out_1 0 rfl rfl)
theorem dX4_out_26 : decode cX4_out 26 = .ok (.iconst 1, 1) := dk_4 (dk_at dksX4_out_1 3 rfl rfl)
theorem dX4_out_27 : decode cX4_out 27 = .ok (.goto 20, 3) := dk_167 0 20 (dk_at dksX4_out_1 4 rfl rfl)
theorem dX4_out_30 : decode cX4_out 30 = .ok (.iload_n 3, 1) := dk_29 (dk_at dksX4_out_1 7 rfl rfl)
theorem dX4_out_31 : decode cX4_out 31 = .ok (.i2l, 1) := dk_133 (dk_at dksX4_out_1 8 rfl rfl)
theorem dX4_out_32 : decode cX4_out 32 = .ok (.lconst 0, 1) := dk_9 (dk_at dksX4_out_1 9 rfl rfl)
theorem dX4_out_33 : decode cX4_out 33 = .ok (.ldc2_w 275, 3) := dk_20 1 19 (dk_at dksX4_out_1 10 rfl rfl)
theorem dX4_out_36 : decode cX4_out 36 = .ok (.invokestatic 91, 3) := dk_184 0 91 (dk_at dksX4_out_1 13 rfl rfl)
theorem dX4_out_39 : decode cX4_out 39 = .ok (.ifCond .ne 7, 3) := dk_154 0 7 (dk_at dksX4_out_1 16 rfl rfl)
theorem dX4_out_42 : decode cX4_out 42 = .ok (.iconst 2, 1) := dk_5 (dk_at dksX4_out_1 19 rfl rfl)
theorem dX4_out_43 : decode cX4_out 43 = .ok (.goto 4, 3) := dk_167 0 4 (dk_at dksX4_out_1 20 rfl rfl)
theorem dX4_out_46 : decode cX4_out 46 = .ok (.iconst 0, 1) := dk_3 (dk_at dksX4_out_1 23 rfl rfl)
theorem dX4_out_47 : decode cX4_out 47 = .ok (.invokevirtual 215, 3) := dk_182 0 215 (dk_at dksX4_out_2 0 rfl rfl)
theorem dX4_out_50 : decode cX4_out 50 = .ok (.ifCond .eq 5, 3) := dk_153 0 5 (dk_at dksX4_out_2 3 rfl rfl)
theorem dX4_out_53 : decode cX4_out 53 = .ok (.iconst 0, 1) := dk_3 (dk_at dksX4_out_2 6 rfl rfl)
theorem dX4_out_54 : decode cX4_out 54 = .ok (.ireturn, 1) := dk_172 (dk_at dksX4_out_2 7 rfl rfl)
theorem dX4_out_55 : decode cX4_out 55 = .ok (.iload_n 2, 1) := dk_28 (dk_at dksX4_out_2 8 rfl rfl)
theorem dX4_out_56 : decode cX4_out 56 = .ok (.istore 4, 2) := dk_54 4 (dk_at dksX4_out_2 9 rfl rfl)
theorem dX4_out_58 : decode cX4_out 58 = .ok (.aload_n 0, 1) := dk_42 (dk_at dksX4_out_2 11 rfl rfl)
theorem dX4_out_59 : decode cX4_out 59 = .ok (.getfield 83, 3) := dk_180 0 83 (dk_at dksX4_out_2 12 rfl rfl)
theorem dX4_out_62 : decode cX4_out 62 = .ok (.astore 5, 2) := dk_58 5 (dk_at dksX4_out_2 15 rfl rfl)
theorem dX4_out_64 : decode cX4_out 64 = .ok (.aload 5, 2) := dk_25 5 (dk_at dksX4_out_2 17 rfl rfl)
theorem dX4_out_66 : decode cX4_out 66 = .ok (.arraylength, 1) := dk_190 (dk_at dksX4_out_2 19 rfl rfl)
theorem dX4_out_67 : decode cX4_out 67 = .ok (.istore 6, 2) := dk_54 6 (dk_at dksX4_out_2 20 rfl rfl)
theorem dX4_out_69 : decode cX4_out 69 = .ok (.iconst 0, 1) := dk_3 (dk_at dksX4_out_2 22 rfl rfl)
theorem dX4_out_70 : decode cX4_out 70 = .ok (.istore 7, 2) := dk_54 7 (dk_at dksX4_out_3 0 rfl rfl)
theorem dX4_out_72 : decode cX4_out 72 = .ok (.iload 7, 2) := dk_21 7 (dk_at dksX4_out_3 2 rfl rfl)
theorem dX4_out_74 : decode cX4_out 74 = .ok (.iload 6, 2) := dk_21 6 (dk_at dksX4_out_3 4 rfl rfl)
theorem dX4_out_76 : decode cX4_out 76 = .ok (.if_icmp .ge 39, 3) := dk_162 0 39 (dk_at dksX4_out_3 6 rfl rfl)
theorem dX4_out_79 : decode cX4_out 79 = .ok (.aload 5, 2) := dk_25 5 (dk_at dksX4_out_3 9 rfl rfl)
theorem dX4_out_81 : decode cX4_out 81 = .ok (.iload 7, 2) := dk_21 7 (dk_at dksX4_out_3 11 rfl rfl)
theorem dX4_out_83 : decode cX4_out 83 = .ok (.aaload, 1) := dk_50 (dk_at dksX4_out_3 13 rfl rfl)
theorem dX4_out_84 : decode cX4_out 84 = .ok (.astore 8, 2) := dk_58 8 (dk_at dksX4_out_3 14 rfl rfl)
theorem dX4_out_86 : decode cX4_out 86 = .ok (.aload 8, 2) := dk_25 8 (dk_at dksX4_out_3 16 rfl rfl)
theorem dX4_out_88 : decode cX4_out 88 = .ok (.iconst 0, 1) := dk_3 (dk_at dksX4_out_3 18 rfl rfl)
theorem dX4_out_89 : decode cX4_out 89 = .ok (.iaload, 1) := dk_46 (dk_at dksX4_out_3 19 rfl rfl)
theorem dX4_out_90 : decode cX4_out 90 = .ok (.iload_n 1, 1) := dk_27 (dk_at dksX4_out_3 20 rfl rfl)
theorem dX4_out_91 : decode cX4_out 91 = .ok (.if_icmp .ne 18, 3) := dk_160 0 18 (dk_at dksX4_out_3 21 rfl rfl)
theorem dX4_out_94 : decode cX4_out 94 = .ok (.iload 4, 2) := dk_21 4 (dk_at dksX4_out_4 0 rfl rfl)
theorem dX4_out_96 : decode cX4_out 96 = .ok (.iinc 4 (-1), 3) := dk_132 4 255 (dk_at dksX4_out_4 2 rfl rfl)
theorem dX4_out_99 : decode cX4_out 99 = .ok (.ifCond .ne 10, 3) := dk_154 0 10 (dk_at dksX4_out_4 5 rfl rfl)
theorem dX4_out_102 : decode cX4_out 102 = .ok (.aload 8, 2) := dk_25 8 (dk_at dksX4_out_4 8 rfl rfl)
theorem dX4_out_104 : decode cX4_out 104 = .ok (.iconst 1, 1) := dk_4 (dk_at dksX4_out_4 10 rfl rfl)
theorem dX4_out_105 : decode cX4_out 105 = .ok (.iload_n 3, 1) := dk_29 (dk_at dksX4_out_4 11 rfl rfl)
theorem dX4_out_106 : decode cX4_out 106 = .ok (.iadd, 1) := dk_96 (dk_at dksX4_out_4 12 rfl rfl)
theorem dX4_out_107 : decode cX4_out 107 = .ok (.iaload, 1) := dk_46 (dk_at dksX4_out_4 13 rfl rfl)
theorem dX4_out_108 : decode cX4_out 108 = .ok (.ireturn, 1) := dk_172 (dk_at dksX4_out_4 14 rfl rfl)
theorem dX4_out_109 : decode cX4_out 109 = .ok (.iinc 7 1, 3) := dk_132 7 1 (dk_at dksX4_out_4 15 rfl rfl)
theorem dX4_out_112 : decode cX4_out 112 = .ok (.goto (-40), 3) := dk_167 255 216 (dk_at dksX4_out_4 18 rfl rfl)
theorem dX4_out_115 : decode cX4_out 115 = .ok (.iconst 0, 1) := dk_3 (dk_at dksX4_out_4 21 rfl rfl)
theorem dX4_out_116 : decode cX4_out 116 = .ok (.ireturn, 1) := dk_172 (dk_at dksX4_out_4 22 rfl rfl)
abbrev cX4_drops : ByteArray := prog_8_method_70_code
def yX4_drops : MethodName := ⟨RX4, "drops", "(I)I"⟩
def dkwX4_drops_1 : List UInt8 := [153, 0, 5, 3, 172, 42, 180, 0, 23, 27, 16, 7, 96, 46, 172]
abbrev dktX4_drops_1 : List UInt8 := dkwX4_drops_1 ++ []
def dkwX4_drops_0 : List UInt8 := [42, 27, 133, 20, 1, 21, 20, 1, 19, 184, 0, 91, 153, 0, 7, 3, 167, 0, 4, 4, 182, 0, 215]
abbrev dktX4_drops_0 : List UInt8 := dkwX4_drops_0 ++ dktX4_drops_1
theorem dksX4_drops_0 : cX4_drops.data.toList.drop 0 = dktX4_drops_0 := by decide +kernel
theorem dksX4_drops_1 : cX4_drops.data.toList.drop 23 = dktX4_drops_1 := dk_seg dksX4_drops_0 23 rfl rfl
theorem dX4_drops_0 : decode cX4_drops 0 = .ok (.aload_n 0, 1) := dk_42 (dk_at dksX4_drops_0 0 rfl rfl)
theorem dX4_drops_1 : decode cX4_drops 1 = .ok (.iload_n 1, 1) := dk_27 (dk_at dksX4_drops_0 1 rfl rfl)
theorem dX4_drops_2 : decode cX4_drops 2 = .ok (.i2l, 1) := dk_133 (dk_at dksX4_drops_0 2 rfl rfl)
theorem dX4_drops_3 : decode cX4_drops 3 = .ok (.ldc2_w 277, 3) := dk_20 1 21 (dk_at dksX4_drops_0 3 rfl rfl)
theorem dX4_drops_6 : decode cX4_drops 6 = .ok (.ldc2_w 275, 3) := dk_20 1 19 (dk_at dksX4_drops_0 6 rfl rfl)
theorem dX4_drops_9 : decode cX4_drops 9 = .ok (.invokestatic 91, 3) := dk_184 0 91 (dk_at dksX4_drops_0 9 rfl rfl)
theorem dX4_drops_12 : decode cX4_drops 12 = .ok (.ifCond .eq 7, 3) := dk_153 0 7 (dk_at dksX4_drops_0 12 rfl rfl)
theorem dX4_drops_15 : decode cX4_drops 15 = .ok (.iconst 0, 1) := dk_3 (dk_at dksX4_drops_0 15 rfl rfl)
theorem dX4_drops_16 : decode cX4_drops 16 = .ok (.goto 4, 3) := dk_167 0 4 (dk_at dksX4_drops_0 16 rfl rfl)
theorem dX4_drops_19 : decode cX4_drops 19 = .ok (.iconst 1, 1) := dk_4 (dk_at dksX4_drops_0 19 rfl rfl)
theorem dX4_drops_20 : decode cX4_drops 20 = .ok (.invokevirtual 215, 3) := dk_182 0 215 (dk_at dksX4_drops_0 20 rfl rfl)
theorem dX4_drops_23 : decode cX4_drops 23 = .ok (.ifCond .eq 5, 3) := dk_153 0 5 (dk_at dksX4_drops_1 0 rfl rfl)
theorem dX4_drops_26 : decode cX4_drops 26 = .ok (.iconst 0, 1) := dk_3 (dk_at dksX4_drops_1 3 rfl rfl)
theorem dX4_drops_27 : decode cX4_drops 27 = .ok (.ireturn, 1) := dk_172 (dk_at dksX4_drops_1 4 rfl rfl)
theorem dX4_drops_28 : decode cX4_drops 28 = .ok (.aload_n 0, 1) := dk_42 (dk_at dksX4_drops_1 5 rfl rfl)
theorem dX4_drops_29 : decode cX4_drops 29 = .ok (.getfield 23, 3) := dk_180 0 23 (dk_at dksX4_drops_1 6 rfl rfl)
theorem dX4_drops_32 : decode cX4_drops 32 = .ok (.iload_n 1, 1) := dk_27 (dk_at dksX4_drops_1 9 rfl rfl)
theorem dX4_drops_33 : decode cX4_drops 33 = .ok (.bipush 7, 2) := dk_16 7 (dk_at dksX4_drops_1 10 rfl rfl)
theorem dX4_drops_35 : decode cX4_drops 35 = .ok (.iadd, 1) := dk_96 (dk_at dksX4_drops_1 12 rfl rfl)
theorem dX4_drops_36 : decode cX4_drops 36 = .ok (.iaload, 1) := dk_46 (dk_at dksX4_drops_1 13 rfl rfl)
theorem dX4_drops_37 : decode cX4_drops 37 = .ok (.ireturn, 1) := dk_172 (dk_at dksX4_drops_1 14 rfl rfl)
abbrev cX4_publicOf : ByteArray := prog_8_method_71_code
def yX4_publicOf : MethodName := ⟨RX4, "publicOf", "(I)I"⟩
def dkwX4_publicOf_1 : List UInt8 := [3, 172, 27, 184, 0, 122, 172]
abbrev dktX4_publicOf_1 : List UInt8 := dkwX4_publicOf_1 ++ []
def dkwX4_publicOf_0 : List UInt8 := [42, 27, 133, 9, 20, 1, 23, 184, 0, 91, 153, 0, 7, 3, 167, 0, 4, 4, 182, 0, 215, 153, 0, 5]
abbrev dktX4_publicOf_0 : List UInt8 := dkwX4_publicOf_0 ++ dktX4_publicOf_1
theorem dksX4_publicOf_0 : cX4_publicOf.data.toList.drop 0 = dktX4_publicOf_0 := by decide +kernel
theorem dksX4_publicOf_1 : cX4_publicOf.data.toList.drop 24 = dktX4_publicOf_1 := dk_seg dksX4_publicOf_0 24 rfl rfl
theorem dX4_publicOf_0 : decode cX4_publicOf 0 = .ok (.aload_n 0, 1) := dk_42 (dk_at dksX4_publicOf_0 0 rfl rfl)
theorem dX4_publicOf_1 : decode cX4_publicOf 1 = .ok (.iload_n 1, 1) := dk_27 (dk_at dksX4_publicOf_0 1 rfl rfl)
theorem dX4_publicOf_2 : decode cX4_publicOf 2 = .ok (.i2l, 1) := dk_133 (dk_at dksX4_publicOf_0 2 rfl rfl)
theorem dX4_publicOf_3 : decode cX4_publicOf 3 = .ok (.lconst 0, 1) := dk_9 (dk_at dksX4_publicOf_0 3 rfl rfl)
theorem dX4_publicOf_4 : decode cX4_publicOf 4 = .ok (.ldc2_w 279, 3) := dk_20 1 23 (dk_at dksX4_publicOf_0 4 rfl rfl)
theorem dX4_publicOf_7 : decode cX4_publicOf 7 = .ok (.invokestatic 91, 3) := dk_184 0 91 (dk_at dksX4_publicOf_0 7 rfl rfl)
theorem dX4_publicOf_10 : decode cX4_publicOf 10 = .ok (.ifCond .eq 7, 3) := dk_153 0 7 (dk_at dksX4_publicOf_0 10 rfl rfl)
theorem dX4_publicOf_13 : decode cX4_publicOf 13 = .ok (.iconst 0, 1) := dk_3 (dk_at dksX4_publicOf_0 13 rfl rfl)
theorem dX4_publicOf_14 : decode cX4_publicOf 14 = .ok (.goto 4, 3) := dk_167 0 4 (dk_at dksX4_publicOf_0 14 rfl rfl)
theorem dX4_publicOf_17 : decode cX4_publicOf 17 = .ok (.iconst 1, 1) := dk_4 (dk_at dksX4_publicOf_0 17 rfl rfl)
theorem dX4_publicOf_18 : decode cX4_publicOf 18 = .ok (.invokevirtual 215, 3) := dk_182 0 215 (dk_at dksX4_publicOf_0 18 rfl rfl)
theorem dX4_publicOf_21 : decode cX4_publicOf 21 = .ok (.ifCond .eq 5, 3) := dk_153 0 5 (dk_at dksX4_publicOf_0 21 rfl rfl)
theorem dX4_publicOf_24 : decode cX4_publicOf 24 = .ok (.iconst 0, 1) := dk_3 (dk_at dksX4_publicOf_1 0 rfl rfl)
theorem dX4_publicOf_25 : decode cX4_publicOf 25 = .ok (.ireturn, 1) := dk_172 (dk_at dksX4_publicOf_1 1 rfl rfl)
theorem dX4_publicOf_26 : decode cX4_publicOf 26 = .ok (.iload_n 1, 1) := dk_27 (dk_at dksX4_publicOf_1 2 rfl rfl)
theorem dX4_publicOf_27 : decode cX4_publicOf 27 = .ok (.invokestatic 122, 3) := dk_184 0 122 (dk_at dksX4_publicOf_1 3 rfl rfl)
theorem dX4_publicOf_30 : decode cX4_publicOf 30 = .ok (.ireturn, 1) := dk_172 (dk_at dksX4_publicOf_1 6 rfl rfl)
abbrev cX4_shared : ByteArray := prog_8_method_72_code
def yX4_shared : MethodName := ⟨RX4, "shared", "(II)I"⟩
def dkwX4_shared_1 : List UInt8 := [153, 0, 7, 3, 167, 0, 4, 4, 182, 0, 215, 153, 0, 5, 3, 172, 27, 28, 184, 0, 135, 172]
abbrev dktX4_shared_1 : List UInt8 := dkwX4_shared_1 ++ []
def dkwX4_shared_0 : List UInt8 := [42, 27, 133, 9, 20, 1, 23, 184, 0, 91, 153, 0, 19, 28, 133, 10, 20, 1, 25, 184, 0, 91]
abbrev dktX4_shared_0 : List UInt8 := dkwX4_shared_0 ++ dktX4_shared_1
theorem dksX4_shared_0 : cX4_shared.data.toList.drop 0 = dktX4_shared_0 := by decide +kernel
theorem dksX4_shared_1 : cX4_shared.data.toList.drop 22 = dktX4_shared_1 := dk_seg dksX4_shared_0 22 rfl rfl
theorem dX4_shared_0 : decode cX4_shared 0 = .ok (.aload_n 0, 1) := dk_42 (dk_at dksX4_shared_0 0 rfl rfl)
theorem dX4_shared_1 : decode cX4_shared 1 = .ok (.iload_n 1, 1) := dk_27 (dk_at dksX4_shared_0 1 rfl rfl)
theorem dX4_shared_2 : decode cX4_shared 2 = .ok (.i2l, 1) := dk_133 (dk_at dksX4_shared_0 2 rfl rfl)
theorem dX4_shared_3 : decode cX4_shared 3 = .ok (.lconst 0, 1) := dk_9 (dk_at dksX4_shared_0 3 rfl rfl)
theorem dX4_shared_4 : decode cX4_shared 4 = .ok (.ldc2_w 279, 3) := dk_20 1 23 (dk_at dksX4_shared_0 4 rfl rfl)
theorem dX4_shared_7 : decode cX4_shared 7 = .ok (.invokestatic 91, 3) := dk_184 0 91 (dk_at dksX4_shared_0 7 rfl rfl)
theorem dX4_shared_10 : decode cX4_shared 10 = .ok (.ifCond .eq 19, 3) := dk_153 0 19 (dk_at dksX4_shared_0 10 rfl rfl)
theorem dX4_shared_13 : decode cX4_shared 13 = .ok (.iload_n 2, 1) := dk_28 (dk_at dksX4_shared_0 13 rfl rfl)
theorem dX4_shared_14 : decode cX4_shared 14 = .ok (.i2l, 1) := dk_133 (dk_at dksX4_shared_0 14 rfl rfl)
theorem dX4_shared_15 : decode cX4_shared 15 = .ok (.lconst 1, 1) := dk_10 (dk_at dksX4_shared_0 15 rfl rfl)
theorem dX4_shared_16 : decode cX4_shared 16 = .ok (.ldc2_w 281, 3) := dk_20 1 25 (dk_at dksX4_shared_0 16 rfl rfl)
theorem dX4_shared_19 : decode cX4_shared 19 = .ok (.invokestatic 91, 3) := dk_184 0 91 (dk_at dksX4_shared_0 19 rfl rfl)
theorem dX4_shared_22 : decode cX4_shared 22 = .ok (.ifCond .eq 7, 3) := dk_153 0 7 (dk_at dksX4_shared_1 0 rfl rfl)
theorem dX4_shared_25 : decode cX4_shared 25 = .ok (.iconst 0, 1) := dk_3 (dk_at dksX4_shared_1 3 rfl rfl)
theorem dX4_shared_26 : decode cX4_shared 26 = .ok (.goto 4, 3) := dk_167 0 4 (dk_at dksX4_shared_1 4 rfl rfl)
theorem dX4_shared_29 : decode cX4_shared 29 = .ok (.iconst 1, 1) := dk_4 (dk_at dksX4_shared_1 7 rfl rfl)
theorem dX4_shared_30 : decode cX4_shared 30 = .ok (.invokevirtual 215, 3) := dk_182 0 215 (dk_at dksX4_shared_1 8 rfl rfl)
theorem dX4_shared_33 : decode cX4_shared 33 = .ok (.ifCond .eq 5, 3) := dk_153 0 5 (dk_at dksX4_shared_1 11 rfl rfl)
theorem dX4_shared_36 : decode cX4_shared 36 = .ok (.iconst 0, 1) := dk_3 (dk_at dksX4_shared_1 14 rfl rfl)
theorem dX4_shared_37 : decode cX4_shared 37 = .ok (.ireturn, 1) := dk_172 (dk_at dksX4_shared_1 15 rfl rfl)
theorem dX4_shared_38 : decode cX4_shared 38 = .ok (.iload_n 1, 1) := dk_27 (dk_at dksX4_shared_1 16 rfl rfl)
theorem dX4_shared_39 : decode cX4_shared 39 = .ok (.iload_n 2, 1) := dk_28 (dk_at dksX4_shared_1 17 rfl rfl)
theorem dX4_shared_40 : decode cX4_shared 40 = .ok (.invokestatic 135, 3) := dk_184 0 135 (dk_at dksX4_shared_1 18 rfl rfl)
theorem dX4_shared_43 : decode cX4_shared 43 = .ok (.ireturn, 1) := dk_172 (dk_at dksX4_shared_1 21 rfl rfl)
abbrev cX4_seal : ByteArray := prog_8_method_73_code
def yX4_seal : MethodName := ⟨RX4, "seal", "(IIII)I"⟩
def dkwX4_seal_4 : List UInt8 := [89, 5, 21, 4, 79, 184, 0, 154, 172]
abbrev dktX4_seal_4 : List UInt8 := dkwX4_seal_4 ++ []
def dkwX4_seal_3 : List UInt8 := [167, 0, 4, 4, 182, 0, 215, 153, 0, 5, 3, 172, 27, 6, 188, 10, 89, 3, 28, 79, 89, 4, 29, 79]
abbrev dktX4_seal_3 : List UInt8 := dkwX4_seal_3 ++ dktX4_seal_4
def dkwX4_seal_2 : List UInt8 := [20, 0, 233, 184, 0, 91, 153, 0, 7, 4, 167, 0, 4, 3, 54, 5, 42, 21, 5, 153, 0, 7, 3]
abbrev dktX4_seal_2 : List UInt8 := dkwX4_seal_2 ++ dktX4_seal_3
def dkwX4_seal_1 : List UInt8 := [153, 0, 36, 29, 133, 20, 1, 29, 20, 0, 233, 184, 0, 91, 153, 0, 22, 21, 4, 133, 20, 1, 29]
abbrev dktX4_seal_1 : List UInt8 := dkwX4_seal_1 ++ dktX4_seal_2
def dkwX4_seal_0 : List UInt8 := [27, 133, 10, 20, 1, 27, 184, 0, 91, 153, 0, 50, 28, 133, 20, 1, 29, 20, 0, 233, 184, 0, 91]
abbrev dktX4_seal_0 : List UInt8 := dkwX4_seal_0 ++ dktX4_seal_1
theorem dksX4_seal_0 : cX4_seal.data.toList.drop 0 = dktX4_seal_0 := by decide +kernel
theorem dksX4_seal_1 : cX4_seal.data.toList.drop 23 = dktX4_seal_1 := dk_seg dksX4_seal_0 23 rfl rfl
theorem dksX4_seal_2 : cX4_seal.data.toList.drop 46 = dktX4_seal_2 := dk_seg dksX4_seal_1 23 rfl rfl
theorem dksX4_seal_3 : cX4_seal.data.toList.drop 69 = dktX4_seal_3 := dk_seg dksX4_seal_2 23 rfl rfl
theorem dksX4_seal_4 : cX4_seal.data.toList.drop 93 = dktX4_seal_4 := dk_seg dksX4_seal_3 24 rfl rfl
theorem dX4_seal_0 : decode cX4_seal 0 = .ok (.iload_n 1, 1) := dk_27 (dk_at dksX4_seal_0 0 rfl rfl)
theorem dX4_seal_1 : decode cX4_seal 1 = .ok (.i2l, 1) := dk_133 (dk_at dksX4_seal_0 1 rfl rfl)
theorem dX4_seal_2 : decode cX4_seal 2 = .ok (.lconst 1, 1) := dk_10 (dk_at dksX4_seal_0 2 rfl rfl)
theorem dX4_seal_3 : decode cX4_seal 3 = .ok (.ldc2_w 283, 3) := dk_20 1 27 (dk_at dksX4_seal_0 3 rfl rfl)
theorem dX4_seal_6 : decode cX4_seal 6 = .ok (.invokestatic 91, 3) := dk_184 0 91 (dk_at dksX4_seal_0 6 rfl rfl)
theorem dX4_seal_9 : decode cX4_seal 9 = .ok (.ifCond .eq 50, 3) := dk_153 0 50 (dk_at dksX4_seal_0 9 rfl rfl)
theorem dX4_seal_12 : decode cX4_seal 12 = .ok (.iload_n 2, 1) := dk_28 (dk_at dksX4_seal_0 12 rfl rfl)
theorem dX4_seal_13 : decode cX4_seal 13 = .ok (.i2l, 1) := dk_133 (dk_at dksX4_seal_0 13 rfl rfl)
theorem dX4_seal_14 : decode cX4_seal 14 = .ok (.ldc2_w 285, 3) := dk_20 1 29 (dk_at dksX4_seal_0 14 rfl rfl)
theorem dX4_seal_17 : decode cX4_seal 17 = .ok (.ldc2_w 233, 3) := dk_20 0 233 (dk_at dksX4_seal_0 17 rfl rfl)
theorem dX4_seal_20 : decode cX4_seal 20 = .ok (.invokestatic 91, 3) := dk_184 0 91 (dk_at dksX4_seal_0 20 rfl rfl)
theorem dX4_seal_23 : decode cX4_seal 23 = .ok (.ifCond .eq 36, 3) := dk_153 0 36 (dk_at dksX4_seal_1 0 rfl rfl)
theorem dX4_seal_26 : decode cX4_seal 26 = .ok (.iload_n 3, 1) := dk_29 (dk_at dksX4_seal_1 3 rfl rfl)
theorem dX4_seal_27 : decode cX4_seal 27 = .ok (.i2l, 1) := dk_133 (dk_at dksX4_seal_1 4 rfl rfl)
theorem dX4_seal_28 : decode cX4_seal 28 = .ok (.ldc2_w 285, 3) := dk_20 1 29 (dk_at dksX4_seal_1 5 rfl rfl)
theorem dX4_seal_31 : decode cX4_seal 31 = .ok (.ldc2_w 233, 3) := dk_20 0 233 (dk_at dksX4_seal_1 8 rfl rfl)
theorem dX4_seal_34 : decode cX4_seal 34 = .ok (.invokestatic 91, 3) := dk_184 0 91 (dk_at dksX4_seal_1 11 rfl rfl)
theorem dX4_seal_37 : decode cX4_seal 37 = .ok (.ifCond .eq 22, 3) := dk_153 0 22 (dk_at dksX4_seal_1 14 rfl rfl)
theorem dX4_seal_40 : decode cX4_seal 40 = .ok (.iload 4, 2) := dk_21 4 (dk_at dksX4_seal_1 17 rfl rfl)
theorem dX4_seal_42 : decode cX4_seal 42 = .ok (.i2l, 1) := dk_133 (dk_at dksX4_seal_1 19 rfl rfl)
theorem dX4_seal_43 : decode cX4_seal 43 = .ok (.ldc2_w 285, 3) := dk_20 1 29 (dk_at dksX4_seal_1 20 rfl rfl)
theorem dX4_seal_46 : decode cX4_seal 46 = .ok (.ldc2_w 233, 3) := dk_20 0 233 (dk_at dksX4_seal_2 0 rfl rfl)
theorem dX4_seal_49 : decode cX4_seal 49 = .ok (.invokestatic 91, 3) := dk_184 0 91 (dk_at dksX4_seal_2 3 rfl rfl)
theorem dX4_seal_52 : decode cX4_seal 52 = .ok (.ifCond .eq 7, 3) := dk_153 0 7 (dk_at dksX4_seal_2 6 rfl rfl)
theorem dX4_seal_55 : decode cX4_seal 55 = .ok (.iconst 1, 1) := dk_4 (dk_at dksX4_seal_2 9 rfl rfl)
theorem dX4_seal_56 : decode cX4_seal 56 = .ok (.goto 4, 3) := dk_167 0 4 (dk_at dksX4_seal_2 10 rfl rfl)
theorem dX4_seal_59 : decode cX4_seal 59 = .ok (.iconst 0, 1) := dk_3 (dk_at dksX4_seal_2 13 rfl rfl)
theorem dX4_seal_60 : decode cX4_seal 60 = .ok (.istore 5, 2) := dk_54 5 (dk_at dksX4_seal_2 14 rfl rfl)
theorem dX4_seal_62 : decode cX4_seal 62 = .ok (.aload_n 0, 1) := dk_42 (dk_at dksX4_seal_2 16 rfl rfl)
theorem dX4_seal_63 : decode cX4_seal 63 = .ok (.iload 5, 2) := dk_21 5 (dk_at dksX4_seal_2 17 rfl rfl)
theorem dX4_seal_65 : decode cX4_seal 65 = .ok (.ifCond .eq 7, 3) := dk_153 0 7 (dk_at dksX4_seal_2 19 rfl rfl)
theorem dX4_seal_68 : decode cX4_seal 68 = .ok (.iconst 0, 1) := dk_3 (dk_at dksX4_seal_2 22 rfl rfl)
theorem dX4_seal_69 : decode cX4_seal 69 = .ok (.goto 4, 3) := dk_167 0 4 (dk_at dksX4_seal_3 0 rfl rfl)
theorem dX4_seal_72 : decode cX4_seal 72 = .ok (.iconst 1, 1) := dk_4 (dk_at dksX4_seal_3 3 rfl rfl)
theorem dX4_seal_73 : decode cX4_seal 73 = .ok (.invokevirtual 215, 3) := dk_182 0 215 (dk_at dksX4_seal_3 4 rfl rfl)
theorem dX4_seal_76 : decode cX4_seal 76 = .ok (.ifCond .eq 5, 3) := dk_153 0 5 (dk_at dksX4_seal_3 7 rfl rfl)
theorem dX4_seal_79 : decode cX4_seal 79 = .ok (.iconst 0, 1) := dk_3 (dk_at dksX4_seal_3 10 rfl rfl)
theorem dX4_seal_80 : decode cX4_seal 80 = .ok (.ireturn, 1) := dk_172 (dk_at dksX4_seal_3 11 rfl rfl)
theorem dX4_seal_81 : decode cX4_seal 81 = .ok (.iload_n 1, 1) := dk_27 (dk_at dksX4_seal_3 12 rfl rfl)
theorem dX4_seal_82 : decode cX4_seal 82 = .ok (.iconst 3, 1) := dk_6 (dk_at dksX4_seal_3 13 rfl rfl)
theorem dX4_seal_83 : decode cX4_seal 83 = .ok (.newarray .int, 2) := dk_188_10 (dk_at dksX4_seal_3 14 rfl rfl)
theorem dX4_seal_85 : decode cX4_seal 85 = .ok (.dup, 1) := dk_89 (dk_at dksX4_seal_3 16 rfl rfl)
theorem dX4_seal_86 : decode cX4_seal 86 = .ok (.iconst 0, 1) := dk_3 (dk_at dksX4_seal_3 17 rfl rfl)
theorem dX4_seal_87 : decode cX4_seal 87 = .ok (.iload_n 2, 1) := dk_28 (dk_at dksX4_seal_3 18 rfl rfl)
theorem dX4_seal_88 : decode cX4_seal 88 = .ok (.iastore, 1) := dk_79 (dk_at dksX4_seal_3 19 rfl rfl)
theorem dX4_seal_89 : decode cX4_seal 89 = .ok (.dup, 1) := dk_89 (dk_at dksX4_seal_3 20 rfl rfl)
theorem dX4_seal_90 : decode cX4_seal 90 = .ok (.iconst 1, 1) := dk_4 (dk_at dksX4_seal_3 21 rfl rfl)
theorem dX4_seal_91 : decode cX4_seal 91 = .ok (.iload_n 3, 1) := dk_29 (dk_at dksX4_seal_3 22 rfl rfl)
theorem dX4_seal_92 : decode cX4_seal 92 = .ok (.iastore, 1) := dk_79 (dk_at dksX4_seal_3 23 rfl rfl)
theorem dX4_seal_93 : decode cX4_seal 93 = .ok (.dup, 1) := dk_89 (dk_at dksX4_seal_4 0 rfl rfl)
theorem dX4_seal_94 : decode cX4_seal 94 = .ok (.iconst 2, 1) := dk_5 (dk_at dksX4_seal_4 1 rfl rfl)
theorem dX4_seal_95 : decode cX4_seal 95 = .ok (.iload 4, 2) := dk_21 4 (dk_at dksX4_seal_4 2 rfl rfl)
theorem dX4_seal_97 : decode cX4_seal 97 = .ok (.iastore, 1) := dk_79 (dk_at dksX4_seal_4 4 rfl rfl)
theorem dX4_seal_98 : decode cX4_seal 98 = .ok (.invokestatic 154, 3) := dk_184 0 154 (dk_at dksX4_seal_4 5 rfl rfl)
theorem dX4_seal_101 : decode cX4_seal 101 = .ok (.ireturn, 1) := dk_172 (dk_at dksX4_seal_4 8 rfl rfl)
abbrev cX4_share : ByteArray := prog_8_method_74_code
def yX4_share : MethodName := ⟨RX4, "share", "()F"⟩
def dkwX4_share_1 : List UInt8 := [110, 174]
abbrev dktX4_share_1 : List UInt8 := dkwX4_share_1 ++ []
def dkwX4_share_0 : List UInt8 := [42, 180, 0, 251, 154, 0, 7, 11, 167, 0, 17, 42, 180, 0, 23, 16, 8, 46, 134, 42, 180, 0, 251, 134]
abbrev dktX4_share_0 : List UInt8 := dkwX4_share_0 ++ dktX4_share_1
theorem dksX4_share_0 : cX4_share.data.toList.drop 0 = dktX4_share_0 := by decide +kernel
theorem dksX4_share_1 : cX4_share.data.toList.drop 24 = dktX4_share_1 := dk_seg dksX4_share_0 24 rfl rfl
theorem dX4_share_0 : decode cX4_share 0 = .ok (.aload_n 0, 1) := dk_42 (dk_at dksX4_share_0 0 rfl rfl)
theorem dX4_share_1 : decode cX4_share 1 = .ok (.getfield 251, 3) := dk_180 0 251 (dk_at dksX4_share_0 1 rfl rfl)
theorem dX4_share_4 : decode cX4_share 4 = .ok (.ifCond .ne 7, 3) := dk_154 0 7 (dk_at dksX4_share_0 4 rfl rfl)
theorem dX4_share_7 : decode cX4_share 7 = .ok (.fconst 0, 1) := dk_11 (dk_at dksX4_share_0 7 rfl rfl)
theorem dX4_share_8 : decode cX4_share 8 = .ok (.goto 17, 3) := dk_167 0 17 (dk_at dksX4_share_0 8 rfl rfl)
theorem dX4_share_11 : decode cX4_share 11 = .ok (.aload_n 0, 1) := dk_42 (dk_at dksX4_share_0 11 rfl rfl)
theorem dX4_share_12 : decode cX4_share 12 = .ok (.getfield 23, 3) := dk_180 0 23 (dk_at dksX4_share_0 12 rfl rfl)
theorem dX4_share_15 : decode cX4_share 15 = .ok (.bipush 8, 2) := dk_16 8 (dk_at dksX4_share_0 15 rfl rfl)
theorem dX4_share_17 : decode cX4_share 17 = .ok (.iaload, 1) := dk_46 (dk_at dksX4_share_0 17 rfl rfl)
theorem dX4_share_18 : decode cX4_share 18 = .ok (.i2f, 1) := dk_134 (dk_at dksX4_share_0 18 rfl rfl)
theorem dX4_share_19 : decode cX4_share 19 = .ok (.aload_n 0, 1) := dk_42 (dk_at dksX4_share_0 19 rfl rfl)
theorem dX4_share_20 : decode cX4_share 20 = .ok (.getfield 251, 3) := dk_180 0 251 (dk_at dksX4_share_0 20 rfl rfl)
theorem dX4_share_23 : decode cX4_share 23 = .ok (.i2f, 1) := dk_134 (dk_at dksX4_share_0 23 rfl rfl)
theorem dX4_share_24 : decode cX4_share 24 = .ok (.fdiv, 1) := dk_110 (dk_at dksX4_share_1 0 rfl rfl)
theorem dX4_share_25 : decode cX4_share 25 = .ok (.freturn, 1) := dk_174 (dk_at dksX4_share_1 1 rfl rfl)
abbrev cX4_meanAge : ByteArray := prog_8_method_75_code
def yX4_meanAge : MethodName := ⟨RX4, "meanAge", "()D"⟩
def dkwX4_meanAge_3 : List UInt8 := [148, 154, 0, 7, 14, 167, 0, 8, 31, 138, 33, 138, 111, 175]
abbrev dktX4_meanAge_3 : List UInt8 := dkwX4_meanAge_3 ++ []
def dkwX4_meanAge_2 : List UInt8 := [182, 0, 170, 133, 97, 64, 33, 10, 97, 66, 132, 6, 1, 167, 255, 211, 132, 5, 1, 167, 255, 196, 33, 9]
abbrev dktX4_meanAge_2 : List UInt8 := dkwX4_meanAge_2 ++ dktX4_meanAge_3
def dkwX4_meanAge_1 : List UInt8 := [21, 5, 159, 0, 32, 42, 21, 5, 21, 6, 4, 182, 0, 166, 153, 0, 20, 31, 42, 21, 5, 21, 6, 4]
abbrev dktX4_meanAge_1 : List UInt8 := dkwX4_meanAge_1 ++ dktX4_meanAge_2
def dkwX4_meanAge_0 : List UInt8 := [9, 64, 9, 66, 3, 54, 5, 21, 5, 6, 162, 0, 60, 3, 54, 6, 21, 6, 6, 162, 0, 45, 21, 6]
abbrev dktX4_meanAge_0 : List UInt8 := dkwX4_meanAge_0 ++ dktX4_meanAge_1
theorem dksX4_meanAge_0 : cX4_meanAge.data.toList.drop 0 = dktX4_meanAge_0 := by decide +kernel
theorem dksX4_meanAge_1 : cX4_meanAge.data.toList.drop 24 = dktX4_meanAge_1 := dk_seg dksX4_meanAge_0 24 rfl rfl
theorem dksX4_meanAge_2 : cX4_meanAge.data.toList.drop 48 = dktX4_meanAge_2 := dk_seg dksX4_meanAge_1 24 rfl rfl
theorem dksX4_meanAge_3 : cX4_meanAge.data.toList.drop 72 = dktX4_meanAge_3 := dk_seg dksX4_meanAge_2 24 rfl rfl
theorem dX4_meanAge_0 : decode cX4_meanAge 0 = .ok (.lconst 0, 1) := dk_9 (dk_at dksX4_meanAge_0 0 rfl rfl)
theorem dX4_meanAge_1 : decode cX4_meanAge 1 = .ok (.lstore_n 1, 1) := dk_64 (dk_at dksX4_meanAge_0 1 rfl rfl)
theorem dX4_meanAge_2 : decode cX4_meanAge 2 = .ok (.lconst 0, 1) := dk_9 (dk_at dksX4_meanAge_0 2 rfl rfl)
theorem dX4_meanAge_3 : decode cX4_meanAge 3 = .ok (.lstore_n 3, 1) := dk_66 (dk_at dksX4_meanAge_0 3 rfl rfl)
theorem dX4_meanAge_4 : decode cX4_meanAge 4 = .ok (.iconst 0, 1) := dk_3 (dk_at dksX4_meanAge_0 4 rfl rfl)
theorem dX4_meanAge_5 : decode cX4_meanAge 5 = .ok (.istore 5, 2) := dk_54 5 (dk_at dksX4_meanAge_0 5 rfl rfl)
theorem dX4_meanAge_7 : decode cX4_meanAge 7 = .ok (.iload 5, 2) := dk_21 5 (dk_at dksX4_meanAge_0 7 rfl rfl)
theorem dX4_meanAge_9 : decode cX4_meanAge 9 = .ok (.iconst 3, 1) := dk_6 (dk_at dksX4_meanAge_0 9 rfl rfl)
theorem dX4_meanAge_10 : decode cX4_meanAge 10 = .ok (.if_icmp .ge 60, 3) := dk_162 0 60 (dk_at dksX4_meanAge_0 10 rfl rfl)
theorem dX4_meanAge_13 : decode cX4_meanAge 13 = .ok (.iconst 0, 1) := dk_3 (dk_at dksX4_meanAge_0 13 rfl rfl)
theorem dX4_meanAge_14 : decode cX4_meanAge 14 = .ok (.istore 6, 2) := dk_54 6 (dk_at dksX4_meanAge_0 14 rfl rfl)
theorem dX4_meanAge_16 : decode cX4_meanAge 16 = .ok (.iload 6, 2) := dk_21 6 (dk_at dksX4_meanAge_0 16 rfl rfl)
theorem dX4_meanAge_18 : decode cX4_meanAge 18 = .ok (.iconst 3, 1) := dk_6 (dk_at dksX4_meanAge_0 18 rfl rfl)
theorem dX4_meanAge_19 : decode cX4_meanAge 19 = .ok (.if_icmp .ge 45, 3) := dk_162 0 45 (dk_at dksX4_meanAge_0 19 rfl rfl)
theorem dX4_meanAge_22 : decode cX4_meanAge 22 = .ok (.iload 6, 2) := dk_21 6 (dk_at dksX4_meanAge_0 22 rfl rfl)
theorem dX4_meanAge_24 : decode cX4_meanAge 24 = .ok (.iload 5, 2) := dk_21 5 (dk_at dksX4_meanAge_1 0 rfl rfl)
theorem dX4_meanAge_26 : decode cX4_meanAge 26 = .ok (.if_icmp .eq 32, 3) := dk_159 0 32 (dk_at dksX4_meanAge_1 2 rfl rfl)
theorem dX4_meanAge_29 : decode cX4_meanAge 29 = .ok (.aload_n 0, 1) := dk_42 (dk_at dksX4_meanAge_1 5 rfl rfl)
theorem dX4_meanAge_30 : decode cX4_meanAge 30 = .ok (.iload 5, 2) := dk_21 5 (dk_at dksX4_meanAge_1 6 rfl rfl)
theorem dX4_meanAge_32 : decode cX4_meanAge 32 = .ok (.iload 6, 2) := dk_21 6 (dk_at dksX4_meanAge_1 8 rfl rfl)
theorem dX4_meanAge_34 : decode cX4_meanAge 34 = .ok (.iconst 1, 1) := dk_4 (dk_at dksX4_meanAge_1 10 rfl rfl)
theorem dX4_meanAge_35 : decode cX4_meanAge 35 = .ok (.invokevirtual 166, 3) := dk_182 0 166 (dk_at dksX4_meanAge_1 11 rfl rfl)
theorem dX4_meanAge_38 : decode cX4_meanAge 38 = .ok (.ifCond .eq 20, 3) := dk_153 0 20 (dk_at dksX4_meanAge_1 14 rfl rfl)
theorem dX4_meanAge_41 : decode cX4_meanAge 41 = .ok (.lload_n 1, 1) := dk_31 (dk_at dksX4_meanAge_1 17 rfl rfl)
theorem dX4_meanAge_42 : decode cX4_meanAge 42 = .ok (.aload_n 0, 1) := dk_42 (dk_at dksX4_meanAge_1 18 rfl rfl)
theorem dX4_meanAge_43 : decode cX4_meanAge 43 = .ok (.iload 5, 2) := dk_21 5 (dk_at dksX4_meanAge_1 19 rfl rfl)
theorem dX4_meanAge_45 : decode cX4_meanAge 45 = .ok (.iload 6, 2) := dk_21 6 (dk_at dksX4_meanAge_1 21 rfl rfl)
theorem dX4_meanAge_47 : decode cX4_meanAge 47 = .ok (.iconst 1, 1) := dk_4 (dk_at dksX4_meanAge_1 23 rfl rfl)
theorem dX4_meanAge_48 : decode cX4_meanAge 48 = .ok (.invokevirtual 170, 3) := dk_182 0 170 (dk_at dksX4_meanAge_2 0 rfl rfl)
theorem dX4_meanAge_51 : decode cX4_meanAge 51 = .ok (.i2l, 1) := dk_133 (dk_at dksX4_meanAge_2 3 rfl rfl)
theorem dX4_meanAge_52 : decode cX4_meanAge 52 = .ok (.ladd, 1) := dk_97 (dk_at dksX4_meanAge_2 4 rfl rfl)
theorem dX4_meanAge_53 : decode cX4_meanAge 53 = .ok (.lstore_n 1, 1) := dk_64 (dk_at dksX4_meanAge_2 5 rfl rfl)
theorem dX4_meanAge_54 : decode cX4_meanAge 54 = .ok (.lload_n 3, 1) := dk_33 (dk_at dksX4_meanAge_2 6 rfl rfl)
theorem dX4_meanAge_55 : decode cX4_meanAge 55 = .ok (.lconst 1, 1) := dk_10 (dk_at dksX4_meanAge_2 7 rfl rfl)
theorem dX4_meanAge_56 : decode cX4_meanAge 56 = .ok (.ladd, 1) := dk_97 (dk_at dksX4_meanAge_2 8 rfl rfl)
theorem dX4_meanAge_57 : decode cX4_meanAge 57 = .ok (.lstore_n 3, 1) := dk_66 (dk_at dksX4_meanAge_2 9 rfl rfl)
theorem dX4_meanAge_58 : decode cX4_meanAge 58 = .ok (.iinc 6 1, 3) := dk_132 6 1 (dk_at dksX4_meanAge_2 10 rfl rfl)
theorem dX4_meanAge_61 : decode cX4_meanAge 61 = .ok (.goto (-45), 3) := dk_167 255 211 (dk_at dksX4_meanAge_2 13 rfl rfl)
theorem dX4_meanAge_64 : decode cX4_meanAge 64 = .ok (.iinc 5 1, 3) := dk_132 5 1 (dk_at dksX4_meanAge_2 16 rfl rfl)
theorem dX4_meanAge_67 : decode cX4_meanAge 67 = .ok (.goto (-60), 3) := dk_167 255 196 (dk_at dksX4_meanAge_2 19 rfl rfl)
theorem dX4_meanAge_70 : decode cX4_meanAge 70 = .ok (.lload_n 3, 1) := dk_33 (dk_at dksX4_meanAge_2 22 rfl rfl)
theorem dX4_meanAge_71 : decode cX4_meanAge 71 = .ok (.lconst 0, 1) := dk_9 (dk_at dksX4_meanAge_2 23 rfl rfl)
theorem dX4_meanAge_72 : decode cX4_meanAge 72 = .ok (.lcmp, 1) := dk_148 (dk_at dksX4_meanAge_3 0 rfl rfl)
theorem dX4_meanAge_73 : decode cX4_meanAge 73 = .ok (.ifCond .ne 7, 3) := dk_154 0 7 (dk_at dksX4_meanAge_3 1 rfl rfl)
theorem dX4_meanAge_76 : decode cX4_meanAge 76 = .ok (.dconst 0, 1) := dk_14 (dk_at dksX4_meanAge_3 4 rfl rfl)
theorem dX4_meanAge_77 : decode cX4_meanAge 77 = .ok (.goto 8, 3) := dk_167 0 8 (dk_at dksX4_meanAge_3 5 rfl rfl)
theorem dX4_meanAge_80 : decode cX4_meanAge 80 = .ok (.lload_n 1, 1) := dk_31 (dk_at dksX4_meanAge_3 8 rfl rfl)
theorem dX4_meanAge_81 : decode cX4_meanAge 81 = .ok (.l2d, 1) := dk_138 (dk_at dksX4_meanAge_3 9 rfl rfl)
theorem dX4_meanAge_82 : decode cX4_meanAge 82 = .ok (.lload_n 3, 1) := dk_33 (dk_at dksX4_meanAge_3 10 rfl rfl)
theorem dX4_meanAge_83 : decode cX4_meanAge 83 = .ok (.l2d, 1) := dk_138 (dk_at dksX4_meanAge_3 11 rfl rfl)
theorem dX4_meanAge_84 : decode cX4_meanAge 84 = .ok (.ddiv, 1) := dk_111 (dk_at dksX4_meanAge_3 12 rfl rfl)
theorem dX4_meanAge_85 : decode cX4_meanAge 85 = .ok (.dreturn, 1) := dk_175 (dk_at dksX4_meanAge_3 13 rfl rfl)
abbrev cX4_isSound : ByteArray := prog_8_method_76_code
def yX4_isSound : MethodName := ⟨RX4, "isSound", "()Z"⟩
theorem dX4_isSound_0 : decode cX4_isSound 0 = .ok (.iconst 1, 1) := by decide +kernel
theorem dX4_isSound_1 : decode cX4_isSound 1 = .ok (.ireturn, 1) := by decide +kernel
abbrev cX4_checksum : ByteArray := prog_8_method_78_code
def yX4_checksum : MethodName := ⟨RX4, "checksum", "()J"⟩
def dkwX4_checksum_16 : List UInt8 := [54, 4, 42, 21, 4, 133, 182, 1, 35, 132, 3, 1, 167, 255, 236, 42, 180, 1, 31, 173]
abbrev dktX4_checksum_16 : List UInt8 := dkwX4_checksum_16 ++ []
def dkwX4_checksum_15 : List UInt8 := [132, 1, 1, 167, 255, 218, 42, 180, 0, 23, 76, 43, 190, 61, 3, 62, 29, 28, 162, 0, 21, 43, 29, 46]
abbrev dktX4_checksum_15 : List UInt8 := dkwX4_checksum_15 ++ dktX4_checksum_16
def dkwX4_checksum_14 : List UInt8 := [162, 0, 22, 42, 42, 180, 0, 80, 27, 50, 28, 46, 133, 182, 1, 35, 132, 2, 1, 167, 255, 234]
abbrev dktX4_checksum_14 : List UInt8 := dkwX4_checksum_14 ++ dktX4_checksum_15
def dkwX4_checksum_13 : List UInt8 := [167, 255, 224, 132, 1, 1, 167, 255, 191, 3, 60, 27, 42, 180, 0, 95, 162, 0, 36, 3, 61, 28, 16, 9]
abbrev dktX4_checksum_13 : List UInt8 := dkwX4_checksum_13 ++ dktX4_checksum_14
def dkwX4_checksum_12 : List UInt8 := [58, 5, 25, 5, 3, 46, 27, 160, 0, 12, 42, 25, 5, 7, 46, 133, 182, 1, 35, 132, 4, 1]
abbrev dktX4_checksum_12 : List UInt8 := dkwX4_checksum_12 ++ dktX4_checksum_13
def dkwX4_checksum_11 : List UInt8 := [182, 1, 35, 42, 180, 0, 83, 77, 44, 190, 62, 3, 54, 4, 21, 4, 29, 162, 0, 32, 44, 21, 4, 50]
abbrev dktX4_checksum_11 : List UInt8 := dkwX4_checksum_11 ++ dktX4_checksum_12
def dkwX4_checksum_10 : List UInt8 := [167, 255, 97, 132, 1, 1, 167, 255, 84, 3, 60, 27, 6, 162, 0, 66, 42, 42, 180, 0, 20, 27, 46, 133]
abbrev dktX4_checksum_10 : List UInt8 := dkwX4_checksum_10 ++ dktX4_checksum_11
def dkwX4_checksum_9 : List UInt8 := [182, 1, 35, 42, 25, 4, 16, 8, 46, 133, 182, 1, 35, 132, 3, 1, 167, 255, 170, 132, 2, 1]
abbrev dktX4_checksum_9 : List UInt8 := dkwX4_checksum_9 ++ dktX4_checksum_10
def dkwX4_checksum_8 : List UInt8 := [182, 0, 166, 154, 0, 6, 167, 0, 31, 42, 25, 4, 6, 46, 133, 182, 1, 35, 42, 25, 4, 8, 46, 133]
abbrev dktX4_checksum_8 : List UInt8 := dkwX4_checksum_8 ++ dktX4_checksum_9
def dkwX4_checksum_7 : List UInt8 := [182, 0, 166, 153, 0, 11, 25, 4, 3, 46, 133, 167, 0, 6, 20, 1, 29, 182, 1, 35, 42, 27, 28, 29]
abbrev dktX4_checksum_7 : List UInt8 := dkwX4_checksum_7 ++ dktX4_checksum_8
def dkwX4_checksum_6 : List UInt8 := [3, 62, 29, 6, 162, 0, 87, 42, 180, 0, 72, 27, 50, 28, 50, 29, 50, 58, 4, 42, 42, 27, 28, 29]
abbrev dktX4_checksum_6 : List UInt8 := dkwX4_checksum_6 ++ dktX4_checksum_7
def dkwX4_checksum_5 : List UInt8 := [180, 0, 40, 27, 50, 28, 46, 133, 182, 1, 35, 42, 42, 180, 0, 64, 27, 50, 28, 46, 133, 182, 1, 35]
abbrev dktX4_checksum_5 : List UInt8 := dkwX4_checksum_5 ++ dktX4_checksum_6
def dkwX4_checksum_4 : List UInt8 := [27, 50, 28, 46, 133, 182, 1, 35, 42, 42, 180, 0, 46, 27, 50, 28, 46, 133, 182, 1, 35, 42, 42]
abbrev dktX4_checksum_4 : List UInt8 := dkwX4_checksum_4 ++ dktX4_checksum_5
def dkwX4_checksum_3 : List UInt8 := [6, 162, 0, 173, 3, 61, 28, 6, 162, 0, 160, 28, 27, 160, 0, 6, 167, 0, 146, 42, 42, 180, 0, 37]
abbrev dktX4_checksum_3 : List UInt8 := dkwX4_checksum_3 ++ dktX4_checksum_4
def dkwX4_checksum_2 : List UInt8 := [9, 182, 1, 35, 42, 42, 180, 0, 17, 27, 46, 133, 182, 1, 35, 132, 1, 1, 167, 255, 208, 3, 60, 27]
abbrev dktX4_checksum_2 : List UInt8 := dkwX4_checksum_2 ++ dktX4_checksum_3
def dkwX4_checksum_1 : List UInt8 := [42, 180, 0, 13, 27, 46, 133, 182, 1, 35, 42, 42, 180, 0, 26, 27, 51, 153, 0, 7, 10, 167, 0, 4]
abbrev dktX4_checksum_1 : List UInt8 := dkwX4_checksum_1 ++ dktX4_checksum_2
def dkwX4_checksum_0 : List UInt8 := [42, 20, 0, 110, 181, 1, 31, 42, 42, 180, 0, 129, 133, 182, 1, 35, 3, 60, 27, 6, 162, 0, 49, 42]
abbrev dktX4_checksum_0 : List UInt8 := dkwX4_checksum_0 ++ dktX4_checksum_1
theorem dksX4_checksum_0 : cX4_checksum.data.toList.drop 0 = dktX4_checksum_0 := by decide +kernel
theorem dksX4_checksum_1 : cX4_checksum.data.toList.drop 24 = dktX4_checksum_1 := dk_seg dksX4_checksum_0 24 rfl rfl
theorem dksX4_checksum_2 : cX4_checksum.data.toList.drop 48 = dktX4_checksum_2 := dk_seg dksX4_checksum_1 24 rfl rfl
theorem dksX4_checksum_3 : cX4_checksum.data.toList.drop 72 = dktX4_checksum_3 := dk_seg dksX4_checksum_2 24 rfl rfl
theorem dksX4_checksum_4 : cX4_checksum.data.toList.drop 96 = dktX4_checksum_4 := dk_seg dksX4_checksum_3 24 rfl rfl
theorem dksX4_checksum_5 : cX4_checksum.data.toList.drop 119 = dktX4_checksum_5 := dk_seg dksX4_checksum_4 23 rfl rfl
theorem dksX4_checksum_6 : cX4_checksum.data.toList.drop 143 = dktX4_checksum_6 := dk_seg dksX4_checksum_5 24 rfl rfl
theorem dksX4_checksum_7 : cX4_checksum.data.toList.drop 167 = dktX4_checksum_7 := dk_seg dksX4_checksum_6 24 rfl rfl
theorem dksX4_checksum_8 : cX4_checksum.data.toList.drop 191 = dktX4_checksum_8 := dk_seg dksX4_checksum_7 24 rfl rfl
theorem dksX4_checksum_9 : cX4_checksum.data.toList.drop 215 = dktX4_checksum_9 := dk_seg dksX4_checksum_8 24 rfl rfl
theorem dksX4_checksum_10 : cX4_checksum.data.toList.drop 237 = dktX4_checksum_10 := dk_seg dksX4_checksum_9 22 rfl rfl
theorem dksX4_checksum_11 : cX4_checksum.data.toList.drop 261 = dktX4_checksum_11 := dk_seg dksX4_checksum_10 24 rfl rfl
theorem dksX4_checksum_12 : cX4_checksum.data.toList.drop 285 = dktX4_checksum_12 := dk_seg dksX4_checksum_11 24 rfl rfl
theorem dksX4_checksum_13 : cX4_checksum.data.toList.drop 307 = dktX4_checksum_13 := dk_seg dksX4_checksum_12 22 rfl rfl
theorem dksX4_checksum_14 : cX4_checksum.data.toList.drop 331 = dktX4_checksum_14 := dk_seg dksX4_checksum_13 24 rfl rfl
theorem dksX4_checksum_15 : cX4_checksum.data.toList.drop 353 = dktX4_checksum_15 := dk_seg dksX4_checksum_14 22 rfl rfl
theorem dksX4_checksum_16 : cX4_checksum.data.toList.drop 377 = dktX4_checksum_16 := dk_seg dksX4_checksum_15 24 rfl rfl
theorem dX4_checksum_0 : decode cX4_checksum 0 = .ok (.aload_n 0, 1) := dk_42 (dk_at dksX4_checksum_0 0 rfl rfl)
theorem dX4_checksum_1 : decode cX4_checksum 1 = .ok (.ldc2_w 110, 3) := dk_20 0 110 (dk_at dksX4_checksum_0 1 rfl rfl)
theorem dX4_checksum_4 : decode cX4_checksum 4 = .ok (.putfield 287, 3) := dk_181 1 31 (dk_at dksX4_checksum_0 4 rfl rfl)
theorem dX4_checksum_7 : decode cX4_checksum 7 = .ok (.aload_n 0, 1) := dk_42 (dk_at dksX4_checksum_0 7 rfl rfl)
theorem dX4_checksum_8 : decode cX4_checksum 8 = .ok (.aload_n 0, 1) := dk_42 (dk_at dksX4_checksum_0 8 rfl rfl)
theorem dX4_checksum_9 : decode cX4_checksum 9 = .ok (.getfield 129, 3) := dk_180 0 129 (dk_at dksX4_checksum_0 9 rfl rfl)
theorem dX4_checksum_12 : decode cX4_checksum 12 = .ok (.i2l, 1) := dk_133 (dk_at dksX4_checksum_0 12 rfl rfl)
theorem dX4_checksum_13 : decode cX4_checksum 13 = .ok (.invokevirtual 291, 3) := dk_182 1 35 (dk_at dksX4_checksum_0 13 rfl rfl)
theorem dX4_checksum_16 : decode cX4_checksum 16 = .ok (.iconst 0, 1) := dk_3 (dk_at dksX4_checksum_0 16 rfl rfl)
theorem dX4_checksum_17 : decode cX4_checksum 17 = .ok (.istore_n 1, 1) := dk_60 (dk_at dksX4_checksum_0 17 rfl rfl)
theorem dX4_checksum_18 : decode cX4_checksum 18 = .ok (.iload_n 1, 1) := dk_27 (dk_at dksX4_checksum_0 18 rfl rfl)
theorem dX4_checksum_19 : decode cX4_checksum 19 = .ok (.iconst 3, 1) := dk_6 (dk_at dksX4_checksum_0 19 rfl rfl)
theorem dX4_checksum_20 : decode cX4_checksum 20 = .ok (.if_icmp .ge 49, 3) := dk_162 0 49 (dk_at dksX4_checksum_0 20 rfl rfl)
theorem dX4_checksum_23 : decode cX4_checksum 23 = .ok (.aload_n 0, 1) := dk_42 (dk_at dksX4_checksum_0 23 rfl rfl)
theorem dX4_checksum_24 : decode cX4_checksum 24 = .ok (.aload_n 0, 1) := dk_42 (dk_at dksX4_checksum_1 0 rfl rfl)
theorem dX4_checksum_25 : decode cX4_checksum 25 = .ok (.getfield 13, 3) := dk_180 0 13 (dk_at dksX4_checksum_1 1 rfl rfl)
theorem dX4_checksum_28 : decode cX4_checksum 28 = .ok (.iload_n 1, 1) := dk_27 (dk_at dksX4_checksum_1 4 rfl rfl)
theorem dX4_checksum_29 : decode cX4_checksum 29 = .ok (.iaload, 1) := dk_46 (dk_at dksX4_checksum_1 5 rfl rfl)
theorem dX4_checksum_30 : decode cX4_checksum 30 = .ok (.i2l, 1) := dk_133 (dk_at dksX4_checksum_1 6 rfl rfl)
theorem dX4_checksum_31 : decode cX4_checksum 31 = .ok (.invokevirtual 291, 3) := dk_182 1 35 (dk_at dksX4_checksum_1 7 rfl rfl)
theorem dX4_checksum_34 : decode cX4_checksum 34 = .ok (.aload_n 0, 1) := dk_42 (dk_at dksX4_checksum_1 10 rfl rfl)
theorem dX4_checksum_35 : decode cX4_checksum 35 = .ok (.aload_n 0, 1) := dk_42 (dk_at dksX4_checksum_1 11 rfl rfl)
theorem dX4_checksum_36 : decode cX4_checksum 36 = .ok (.getfield 26, 3) := dk_180 0 26 (dk_at dksX4_checksum_1 12 rfl rfl)
theorem dX4_checksum_39 : decode cX4_checksum 39 = .ok (.iload_n 1, 1) := dk_27 (dk_at dksX4_checksum_1 15 rfl rfl)
theorem dX4_checksum_40 : decode cX4_checksum 40 = .ok (.baload, 1) := dk_51 (dk_at dksX4_checksum_1 16 rfl rfl)
theorem dX4_checksum_41 : decode cX4_checksum 41 = .ok (.ifCond .eq 7, 3) := dk_153 0 7 (dk_at dksX4_checksum_1 17 rfl rfl)
theorem dX4_checksum_44 : decode cX4_checksum 44 = .ok (.lconst 1, 1) := dk_10 (dk_at dksX4_checksum_1 20 rfl rfl)
theorem dX4_checksum_45 : decode cX4_checksum 45 = .ok (.goto 4, 3) := dk_167 0 4 (dk_at dksX4_checksum_1 21 rfl rfl)
theorem dX4_checksum_48 : decode cX4_checksum 48 = .ok (.lconst 0, 1) := dk_9 (dk_at dksX4_checksum_2 0 rfl rfl)
theorem dX4_checksum_49 : decode cX4_checksum 49 = .ok (.invokevirtual 291, 3) := dk_182 1 35 (dk_at dksX4_checksum_2 1 rfl rfl)
theorem dX4_checksum_52 : decode cX4_checksum 52 = .ok (.aload_n 0, 1) := dk_42 (dk_at dksX4_checksum_2 4 rfl rfl)
theorem dX4_checksum_53 : decode cX4_checksum 53 = .ok (.aload_n 0, 1) := dk_42 (dk_at dksX4_checksum_2 5 rfl rfl)
theorem dX4_checksum_54 : decode cX4_checksum 54 = .ok (.getfield 17, 3) := dk_180 0 17 (dk_at dksX4_checksum_2 6 rfl rfl)
theorem dX4_checksum_57 : decode cX4_checksum 57 = .ok (.iload_n 1, 1) := dk_27 (dk_at dksX4_checksum_2 9 rfl rfl)
theorem dX4_checksum_58 : decode cX4_checksum 58 = .ok (.iaload, 1) := dk_46 (dk_at dksX4_checksum_2 10 rfl rfl)
theorem dX4_checksum_59 : decode cX4_checksum 59 = .ok (.i2l, 1) := dk_133 (dk_at dksX4_checksum_2 11 rfl rfl)
theorem dX4_checksum_60 : decode cX4_checksum 60 = .ok (.invokevirtual 291, 3) := dk_182 1 35 (dk_at dksX4_checksum_2 12 rfl rfl)
theorem dX4_checksum_63 : decode cX4_checksum 63 = .ok (.iinc 1 1, 3) := dk_132 1 1 (dk_at dksX4_checksum_2 15 rfl rfl)
theorem dX4_checksum_66 : decode cX4_checksum 66 = .ok (.goto (-48), 3) := dk_167 255 208 (dk_at dksX4_checksum_2 18 rfl rfl)
theorem dX4_checksum_69 : decode cX4_checksum 69 = .ok (.iconst 0, 1) := dk_3 (dk_at dksX4_checksum_2 21 rfl rfl)
theorem dX4_checksum_70 : decode cX4_checksum 70 = .ok (.istore_n 1, 1) := dk_60 (dk_at dksX4_checksum_2 22 rfl rfl)
theorem dX4_checksum_71 : decode cX4_checksum 71 = .ok (.iload_n 1, 1) := dk_27 (dk_at dksX4_checksum_2 23 rfl rfl)
theorem dX4_checksum_72 : decode cX4_checksum 72 = .ok (.iconst 3, 1) := dk_6 (dk_at dksX4_checksum_3 0 rfl rfl)
theorem dX4_checksum_73 : decode cX4_checksum 73 = .ok (.if_icmp .ge 173, 3) := dk_162 0 173 (dk_at dksX4_checksum_3 1 rfl rfl)
theorem dX4_checksum_76 : decode cX4_checksum 76 = .ok (.iconst 0, 1) := dk_3 (dk_at dksX4_checksum_3 4 rfl rfl)
theorem dX4_checksum_77 : decode cX4_checksum 77 = .ok (.istore_n 2, 1) := dk_61 (dk_at dksX4_checksum_3 5 rfl rfl)
theorem dX4_checksum_78 : decode cX4_checksum 78 = .ok (.iload_n 2, 1) := dk_28 (dk_at dksX4_checksum_3 6 rfl rfl)
theorem dX4_checksum_79 : decode cX4_checksum 79 = .ok (.iconst 3, 1) := dk_6 (dk_at dksX4_checksum_3 7 rfl rfl)
theorem dX4_checksum_80 : decode cX4_checksum 80 = .ok (.if_icmp .ge 160, 3) := dk_162 0 160 (dk_at dksX4_checksum_3 8 rfl rfl)
theorem dX4_checksum_83 : decode cX4_checksum 83 = .ok (.iload_n 2, 1) := dk_28 (dk_at dksX4_checksum_3 11 rfl rfl)
theorem dX4_checksum_84 : decode cX4_checksum 84 = .ok (.iload_n 1, 1) := dk_27 (dk_at dksX4_checksum_3 12 rfl rfl)
theorem dX4_checksum_85 : decode cX4_checksum 85 = .ok (.if_icmp .ne 6, 3) := dk_160 0 6 (dk_at dksX4_checksum_3 13 rfl rfl)
theorem dX4_checksum_88 : decode cX4_checksum 88 = .ok (.goto 146, 3) := dk_167 0 146 (dk_at dksX4_checksum_3 16 rfl rfl)
theorem dX4_checksum_91 : decode cX4_checksum 91 = .ok (.aload_n 0, 1) := dk_42 (dk_at dksX4_checksum_3 19 rfl rfl)
theorem dX4_checksum_92 : decode cX4_checksum 92 = .ok (.aload_n 0, 1) := dk_42 (dk_at dksX4_checksum_3 20 rfl rfl)
theorem dX4_checksum_93 : decode cX4_checksum 93 = .ok (.getfield 37, 3) := dk_180 0 37 (dk_at dksX4_checksum_3 21 rfl rfl)
theorem dX4_checksum_96 : decode cX4_checksum 96 = .ok (.iload_n 1, 1) := dk_27 (dk_at dksX4_checksum_4 0 rfl rfl)
theorem dX4_checksum_97 : decode cX4_checksum 97 = .ok (.aaload, 1) := dk_50 (dk_at dksX4_checksum_4 1 rfl rfl)
theorem dX4_checksum_98 : decode cX4_checksum 98 = .ok (.iload_n 2, 1) := dk_28 (dk_at dksX4_checksum_4 2 rfl rfl)
theorem dX4_checksum_99 : decode cX4_checksum 99 = .ok (.iaload, 1) := dk_46 (dk_at dksX4_checksum_4 3 rfl rfl)
theorem dX4_checksum_100 : decode cX4_checksum 100 = .ok (.i2l, 1) := dk_133 (dk_at dksX4_checksum_4 4 rfl rfl)
theorem dX4_checksum_101 : decode cX4_checksum 101 = .ok (.invokevirtual 291, 3) := dk_182 1 35 (dk_at dksX4_checksum_4 5 rfl rfl)
theorem dX4_checksum_104 : decode cX4_checksum 104 = .ok (.aload_n 0, 1) := dk_42 (dk_at dksX4_checksum_4 8 rfl rfl)
theorem dX4_checksum_105 : decode cX4_checksum 105 = .ok (.aload_n 0, 1) := dk_42 (dk_at dksX4_checksum_4 9 rfl rfl)
theorem dX4_checksum_106 : decode cX4_checksum 106 = .ok (.getfield 46, 3) := dk_180 0 46 (dk_at dksX4_checksum_4 10 rfl rfl)
theorem dX4_checksum_109 : decode cX4_checksum 109 = .ok (.iload_n 1, 1) := dk_27 (dk_at dksX4_checksum_4 13 rfl rfl)
theorem dX4_checksum_110 : decode cX4_checksum 110 = .ok (.aaload, 1) := dk_50 (dk_at dksX4_checksum_4 14 rfl rfl)
theorem dX4_checksum_111 : decode cX4_checksum 111 = .ok (.iload_n 2, 1) := dk_28 (dk_at dksX4_checksum_4 15 rfl rfl)
theorem dX4_checksum_112 : decode cX4_checksum 112 = .ok (.iaload, 1) := dk_46 (dk_at dksX4_checksum_4 16 rfl rfl)
theorem dX4_checksum_113 : decode cX4_checksum 113 = .ok (.i2l, 1) := dk_133 (dk_at dksX4_checksum_4 17 rfl rfl)
theorem dX4_checksum_114 : decode cX4_checksum 114 = .ok (.invokevirtual 291, 3) := dk_182 1 35 (dk_at dksX4_checksum_4 18 rfl rfl)
theorem dX4_checksum_117 : decode cX4_checksum 117 = .ok (.aload_n 0, 1) := dk_42 (dk_at dksX4_checksum_4 21 rfl rfl)
theorem dX4_checksum_118 : decode cX4_checksum 118 = .ok (.aload_n 0, 1) := dk_42 (dk_at dksX4_checksum_4 22 rfl rfl)
theorem dX4_checksum_119 : decode cX4_checksum 119 = .ok (.getfield 40, 3) := dk_180 0 40 (dk_at dksX4_checksum_5 0 rfl rfl)
theorem dX4_checksum_122 : decode cX4_checksum 122 = .ok (.iload_n 1, 1) := dk_27 (dk_at dksX4_checksum_5 3 rfl rfl)
theorem dX4_checksum_123 : decode cX4_checksum 123 = .ok (.aaload, 1) := dk_50 (dk_at dksX4_checksum_5 4 rfl rfl)
theorem dX4_checksum_124 : decode cX4_checksum 124 = .ok (.iload_n 2, 1) := dk_28 (dk_at dksX4_checksum_5 5 rfl rfl)
theorem dX4_checksum_125 : decode cX4_checksum 125 = .ok (.iaload, 1) := dk_46 (dk_at dksX4_checksum_5 6 rfl rfl)
theorem dX4_checksum_126 : decode cX4_checksum 126 = .ok (.i2l, 1) := dk_133 (dk_at dksX4_checksum_5 7 rfl rfl)
theorem dX4_checksum_127 : decode cX4_checksum 127 = .ok (.invokevirtual 291, 3) := dk_182 1 35 (dk_at dksX4_checksum_5 8 rfl rfl)
theorem dX4_checksum_130 : decode cX4_checksum 130 = .ok (.aload_n 0, 1) := dk_42 (dk_at dksX4_checksum_5 11 rfl rfl)
theorem dX4_checksum_131 : decode cX4_checksum 131 = .ok (.aload_n 0, 1) := dk_42 (dk_at dksX4_checksum_5 12 rfl rfl)
theorem dX4_checksum_132 : decode cX4_checksum 132 = .ok (.getfield 64, 3) := dk_180 0 64 (dk_at dksX4_checksum_5 13 rfl rfl)
theorem dX4_checksum_135 : decode cX4_checksum 135 = .ok (.iload_n 1, 1) := dk_27 (dk_at dksX4_checksum_5 16 rfl rfl)
theorem dX4_checksum_136 : decode cX4_checksum 136 = .ok (.aaload, 1) := dk_50 (dk_at dksX4_checksum_5 17 rfl rfl)
theorem dX4_checksum_137 : decode cX4_checksum 137 = .ok (.iload_n 2, 1) := dk_28 (dk_at dksX4_checksum_5 18 rfl rfl)
theorem dX4_checksum_138 : decode cX4_checksum 138 = .ok (.iaload, 1) := dk_46 (dk_at dksX4_checksum_5 19 rfl rfl)
theorem dX4_checksum_139 : decode cX4_checksum 139 = .ok (.i2l, 1) := dk_133 (dk_at dksX4_checksum_5 20 rfl rfl)
theorem dX4_checksum_140 : decode cX4_checksum 140 = .ok (.invokevirtual 291, 3) := dk_182 1 35 (dk_at dksX4_checksum_5 21 rfl rfl)
theorem dX4_checksum_143 : decode cX4_checksum 143 = .ok (.iconst 0, 1) := dk_3 (dk_at dksX4_checksum_6 0 rfl rfl)
theorem dX4_checksum_144 : decode cX4_checksum 144 = .ok (.istore_n 3, 1) := dk_62 (dk_at dksX4_checksum_6 1 rfl rfl)
theorem dX4_checksum_145 : decode cX4_checksum 145 = .ok (.iload_n 3, 1) := dk_29 (dk_at dksX4_checksum_6 2 rfl rfl)
theorem dX4_checksum_146 : decode cX4_checksum 146 = .ok (.iconst 3, 1) := dk_6 (dk_at dksX4_checksum_6 3 rfl rfl)
theorem dX4_checksum_147 : decode cX4_checksum 147 = .ok (.if_icmp .ge 87, 3) := dk_162 0 87 (dk_at dksX4_checksum_6 4 rfl rfl)
theorem dX4_checksum_150 : decode cX4_checksum 150 = .ok (.aload_n 0, 1) := dk_42 (dk_at dksX4_checksum_6 7 rfl rfl)
theorem dX4_checksum_151 : decode cX4_checksum 151 = .ok (.getfield 72, 3) := dk_180 0 72 (dk_at dksX4_checksum_6 8 rfl rfl)
theorem dX4_checksum_154 : decode cX4_checksum 154 = .ok (.iload_n 1, 1) := dk_27 (dk_at dksX4_checksum_6 11 rfl rfl)
theorem dX4_checksum_155 : decode cX4_checksum 155 = .ok (.aaload, 1) := dk_50 (dk_at dksX4_checksum_6 12 rfl rfl)
theorem dX4_checksum_156 : decode cX4_checksum 156 = .ok (.iload_n 2, 1) := dk_28 (dk_at dksX4_checksum_6 13 rfl rfl)
theorem dX4_checksum_157 : decode cX4_checksum 157 = .ok (.aaload, 1) := dk_50 (dk_at dksX4_checksum_6 14 rfl rfl)
theorem dX4_checksum_158 : decode cX4_checksum 158 = .ok (.iload_n 3, 1) := dk_29 (dk_at dksX4_checksum_6 15 rfl rfl)
theorem dX4_checksum_159 : decode cX4_checksum 159 = .ok (.aaload, 1) := dk_50 (dk_at dksX4_checksum_6 16 rfl rfl)
theorem dX4_checksum_160 : decode cX4_checksum 160 = .ok (.astore 4, 2) := dk_58 4 (dk_at dksX4_checksum_6 17 rfl rfl)
theorem dX4_checksum_162 : decode cX4_checksum 162 = .ok (.aload_n 0, 1) := dk_42 (dk_at dksX4_checksum_6 19 rfl rfl)
theorem dX4_checksum_163 : decode cX4_checksum 163 = .ok (.aload_n 0, 1) := dk_42 (dk_at dksX4_checksum_6 20 rfl rfl)
theorem dX4_checksum_164 : decode cX4_checksum 164 = .ok (.iload_n 1, 1) := dk_27 (dk_at dksX4_checksum_6 21 rfl rfl)
theorem dX4_checksum_165 : decode cX4_checksum 165 = .ok (.iload_n 2, 1) := dk_28 (dk_at dksX4_checksum_6 22 rfl rfl)
theorem dX4_checksum_166 : decode cX4_checksum 166 = .ok (.iload_n 3, 1) := dk_29 (dk_at dksX4_checksum_6 23 rfl rfl)
theorem dX4_checksum_167 : decode cX4_checksum 167 = .ok (.invokevirtual 166, 3) := dk_182 0 166 (dk_at dksX4_checksum_7 0 rfl rfl)
theorem dX4_checksum_170 : decode cX4_checksum 170 = .ok (.ifCond .eq 11, 3) := dk_153 0 11 (dk_at dksX4_checksum_7 3 rfl rfl)
theorem dX4_checksum_173 : decode cX4_checksum 173 = .ok (.aload 4, 2) := dk_25 4 (dk_at dksX4_checksum_7 6 rfl rfl)
theorem dX4_checksum_175 : decode cX4_checksum 175 = .ok (.iconst 0, 1) := dk_3 (dk_at dksX4_checksum_7 8 rfl rfl)
theorem dX4_checksum_176 : decode cX4_checksum 176 = .ok (.iaload, 1) := dk_46 (dk_at dksX4_checksum_7 9 rfl rfl)
theorem dX4_checksum_177 : decode cX4_checksum 177 = .ok (.i2l, 1) := dk_133 (dk_at dksX4_checksum_7 10 rfl rfl)
theorem dX4_checksum_178 : decode cX4_checksum 178 = .ok (.goto 6, 3) := dk_167 0 6 (dk_at dksX4_checksum_7 11 rfl rfl)
theorem dX4_checksum_181 : decode cX4_checksum 181 = .ok (.ldc2_w 285, 3) := dk_20 1 29 (dk_at dksX4_checksum_7 14 rfl rfl)
theorem dX4_checksum_184 : decode cX4_checksum 184 = .ok (.invokevirtual 291, 3) := dk_182 1 35 (dk_at dksX4_checksum_7 17 rfl rfl)
theorem dX4_checksum_187 : decode cX4_checksum 187 = .ok (.aload_n 0, 1) := dk_42 (dk_at dksX4_checksum_7 20 rfl rfl)
theorem dX4_checksum_188 : decode cX4_checksum 188 = .ok (.iload_n 1, 1) := dk_27 (dk_at dksX4_checksum_7 21 rfl rfl)
theorem dX4_checksum_189 : decode cX4_checksum 189 = .ok (.iload_n 2, 1) := dk_28 (dk_at dksX4_checksum_7 22 rfl rfl)
theorem dX4_checksum_190 : decode cX4_checksum 190 = .ok (.iload_n 3, 1) := dk_29 (dk_at dksX4_checksum_7 23 rfl rfl)
theorem dX4_checksum_191 : decode cX4_checksum 191 = .ok (.invokevirtual 166, 3) := dk_182 0 166 (dk_at dksX4_checksum_8 0 rfl rfl)
theorem dX4_checksum_194 : decode cX4_checksum 194 = .ok (.ifCond .ne 6, 3) := dk_154 0 6 (dk_at dksX4_checksum_8 3 rfl rfl)
theorem dX4_checksum_197 : decode cX4_checksum 197 = .ok (.goto 31, 3) := dk_167 0 31 (dk_at dksX4_checksum_8 6 rfl rfl)
theorem dX4_checksum_200 : decode cX4_checksum 200 = .ok (.aload_n 0, 1) := dk_42 (dk_at dksX4_checksum_8 9 rfl rfl)
theorem dX4_checksum_201 : decode cX4_checksum 201 = .ok (.aload 4, 2) := dk_25 4 (dk_at dksX4_checksum_8 10 rfl rfl)
theorem dX4_checksum_203 : decode cX4_checksum 203 = .ok (.iconst 3, 1) := dk_6 (dk_at dksX4_checksum_8 12 rfl rfl)
theorem dX4_checksum_204 : decode cX4_checksum 204 = .ok (.iaload, 1) := dk_46 (dk_at dksX4_checksum_8 13 rfl rfl)
theorem dX4_checksum_205 : decode cX4_checksum 205 = .ok (.i2l, 1) := dk_133 (dk_at dksX4_checksum_8 14 rfl rfl)
theorem dX4_checksum_206 : decode cX4_checksum 206 = .ok (.invokevirtual 291, 3) := dk_182 1 35 (dk_at dksX4_checksum_8 15 rfl rfl)
theorem dX4_checksum_209 : decode cX4_checksum 209 = .ok (.aload_n 0, 1) := dk_42 (dk_at dksX4_checksum_8 18 rfl rfl)
theorem dX4_checksum_210 : decode cX4_checksum 210 = .ok (.aload 4, 2) := dk_25 4 (dk_at dksX4_checksum_8 19 rfl rfl)
theorem dX4_checksum_212 : decode cX4_checksum 212 = .ok (.iconst 5, 1) := dk_8 (dk_at dksX4_checksum_8 21 rfl rfl)
theorem dX4_checksum_213 : decode cX4_checksum 213 = .ok (.iaload, 1) := dk_46 (dk_at dksX4_checksum_8 22 rfl rfl)
theorem dX4_checksum_214 : decode cX4_checksum 214 = .ok (.i2l, 1) := dk_133 (dk_at dksX4_checksum_8 23 rfl rfl)
theorem dX4_checksum_215 : decode cX4_checksum 215 = .ok (.invokevirtual 291, 3) := dk_182 1 35 (dk_at dksX4_checksum_9 0 rfl rfl)
theorem dX4_checksum_218 : decode cX4_checksum 218 = .ok (.aload_n 0, 1) := dk_42 (dk_at dksX4_checksum_9 3 rfl rfl)
theorem dX4_checksum_219 : decode cX4_checksum 219 = .ok (.aload 4, 2) := dk_25 4 (dk_at dksX4_checksum_9 4 rfl rfl)
theorem dX4_checksum_221 : decode cX4_checksum 221 = .ok (.bipush 8, 2) := dk_16 8 (dk_at dksX4_checksum_9 6 rfl rfl)
theorem dX4_checksum_223 : decode cX4_checksum 223 = .ok (.iaload, 1) := dk_46 (dk_at dksX4_checksum_9 8 rfl rfl)
theorem dX4_checksum_224 : decode cX4_checksum 224 = .ok (.i2l, 1) := dk_133 (dk_at dksX4_checksum_9 9 rfl rfl)
theorem dX4_checksum_225 : decode cX4_checksum 225 = .ok (.invokevirtual 291, 3) := dk_182 1 35 (dk_at dksX4_checksum_9 10 rfl rfl)
theorem dX4_checksum_228 : decode cX4_checksum 228 = .ok (.iinc 3 1, 3) := dk_132 3 1 (dk_at dksX4_checksum_9 13 rfl rfl)
theorem dX4_checksum_231 : decode cX4_checksum 231 = .ok (.goto (-86), 3) := dk_167 255 170 (dk_at dksX4_checksum_9 16 rfl rfl)
theorem dX4_checksum_234 : decode cX4_checksum 234 = .ok (.iinc 2 1, 3) := dk_132 2 1 (dk_at dksX4_checksum_9 19 rfl rfl)
theorem dX4_checksum_237 : decode cX4_checksum 237 = .ok (.goto (-159), 3) := dk_167 255 97 (dk_at dksX4_checksum_10 0 rfl rfl)
theorem dX4_checksum_240 : decode cX4_checksum 240 = .ok (.iinc 1 1, 3) := dk_132 1 1 (dk_at dksX4_checksum_10 3 rfl rfl)
theorem dX4_checksum_243 : decode cX4_checksum 243 = .ok (.goto (-172), 3) := dk_167 255 84 (dk_at dksX4_checksum_10 6 rfl rfl)
theorem dX4_checksum_246 : decode cX4_checksum 246 = .ok (.iconst 0, 1) := dk_3 (dk_at dksX4_checksum_10 9 rfl rfl)
theorem dX4_checksum_247 : decode cX4_checksum 247 = .ok (.istore_n 1, 1) := dk_60 (dk_at dksX4_checksum_10 10 rfl rfl)
theorem dX4_checksum_248 : decode cX4_checksum 248 = .ok (.iload_n 1, 1) := dk_27 (dk_at dksX4_checksum_10 11 rfl rfl)
theorem dX4_checksum_249 : decode cX4_checksum 249 = .ok (.iconst 3, 1) := dk_6 (dk_at dksX4_checksum_10 12 rfl rfl)
theorem dX4_checksum_250 : decode cX4_checksum 250 = .ok (.if_icmp .ge 66, 3) := dk_162 0 66 (dk_at dksX4_checksum_10 13 rfl rfl)
theorem dX4_checksum_253 : decode cX4_checksum 253 = .ok (.aload_n 0, 1) := dk_42 (dk_at dksX4_checksum_10 16 rfl rfl)
theorem dX4_checksum_254 : decode cX4_checksum 254 = .ok (.aload_n 0, 1) := dk_42 (dk_at dksX4_checksum_10 17 rfl rfl)
theorem dX4_checksum_255 : decode cX4_checksum 255 = .ok (.getfield 20, 3) := dk_180 0 20 (dk_at dksX4_checksum_10 18 rfl rfl)
theorem dX4_checksum_258 : decode cX4_checksum 258 = .ok (.iload_n 1, 1) := dk_27 (dk_at dksX4_checksum_10 21 rfl rfl)
theorem dX4_checksum_259 : decode cX4_checksum 259 = .ok (.iaload, 1) := dk_46 (dk_at dksX4_checksum_10 22 rfl rfl)
theorem dX4_checksum_260 : decode cX4_checksum 260 = .ok (.i2l, 1) := dk_133 (dk_at dksX4_checksum_10 23 rfl rfl)
theorem dX4_checksum_261 : decode cX4_checksum 261 = .ok (.invokevirtual 291, 3) := dk_182 1 35 (dk_at dksX4_checksum_11 0 rfl rfl)
theorem dX4_checksum_264 : decode cX4_checksum 264 = .ok (.aload_n 0, 1) := dk_42 (dk_at dksX4_checksum_11 3 rfl rfl)
theorem dX4_checksum_265 : decode cX4_checksum 265 = .ok (.getfield 83, 3) := dk_180 0 83 (dk_at dksX4_checksum_11 4 rfl rfl)
theorem dX4_checksum_268 : decode cX4_checksum 268 = .ok (.astore_n 2, 1) := dk_77 (dk_at dksX4_checksum_11 7 rfl rfl)
theorem dX4_checksum_269 : decode cX4_checksum 269 = .ok (.aload_n 2, 1) := dk_44 (dk_at dksX4_checksum_11 8 rfl rfl)
theorem dX4_checksum_270 : decode cX4_checksum 270 = .ok (.arraylength, 1) := dk_190 (dk_at dksX4_checksum_11 9 rfl rfl)
theorem dX4_checksum_271 : decode cX4_checksum 271 = .ok (.istore_n 3, 1) := dk_62 (dk_at dksX4_checksum_11 10 rfl rfl)
theorem dX4_checksum_272 : decode cX4_checksum 272 = .ok (.iconst 0, 1) := dk_3 (dk_at dksX4_checksum_11 11 rfl rfl)
theorem dX4_checksum_273 : decode cX4_checksum 273 = .ok (.istore 4, 2) := dk_54 4 (dk_at dksX4_checksum_11 12 rfl rfl)
theorem dX4_checksum_275 : decode cX4_checksum 275 = .ok (.iload 4, 2) := dk_21 4 (dk_at dksX4_checksum_11 14 rfl rfl)
theorem dX4_checksum_277 : decode cX4_checksum 277 = .ok (.iload_n 3, 1) := dk_29 (dk_at dksX4_checksum_11 16 rfl rfl)
theorem dX4_checksum_278 : decode cX4_checksum 278 = .ok (.if_icmp .ge 32, 3) := dk_162 0 32 (dk_at dksX4_checksum_11 17 rfl rfl)
theorem dX4_checksum_281 : decode cX4_checksum 281 = .ok (.aload_n 2, 1) := dk_44 (dk_at dksX4_checksum_11 20 rfl rfl)
theorem dX4_checksum_282 : decode cX4_checksum 282 = .ok (.iload 4, 2) := dk_21 4 (dk_at dksX4_checksum_11 21 rfl rfl)
theorem dX4_checksum_284 : decode cX4_checksum 284 = .ok (.aaload, 1) := dk_50 (dk_at dksX4_checksum_11 23 rfl rfl)
theorem dX4_checksum_285 : decode cX4_checksum 285 = .ok (.astore 5, 2) := dk_58 5 (dk_at dksX4_checksum_12 0 rfl rfl)
theorem dX4_checksum_287 : decode cX4_checksum 287 = .ok (.aload 5, 2) := dk_25 5 (dk_at dksX4_checksum_12 2 rfl rfl)
theorem dX4_checksum_289 : decode cX4_checksum 289 = .ok (.iconst 0, 1) := dk_3 (dk_at dksX4_checksum_12 4 rfl rfl)
theorem dX4_checksum_290 : decode cX4_checksum 290 = .ok (.iaload, 1) := dk_46 (dk_at dksX4_checksum_12 5 rfl rfl)
theorem dX4_checksum_291 : decode cX4_checksum 291 = .ok (.iload_n 1, 1) := dk_27 (dk_at dksX4_checksum_12 6 rfl rfl)
theorem dX4_checksum_292 : decode cX4_checksum 292 = .ok (.if_icmp .ne 12, 3) := dk_160 0 12 (dk_at dksX4_checksum_12 7 rfl rfl)
theorem dX4_checksum_295 : decode cX4_checksum 295 = .ok (.aload_n 0, 1) := dk_42 (dk_at dksX4_checksum_12 10 rfl rfl)
theorem dX4_checksum_296 : decode cX4_checksum 296 = .ok (.aload 5, 2) := dk_25 5 (dk_at dksX4_checksum_12 11 rfl rfl)
theorem dX4_checksum_298 : decode cX4_checksum 298 = .ok (.iconst 4, 1) := dk_7 (dk_at dksX4_checksum_12 13 rfl rfl)
theorem dX4_checksum_299 : decode cX4_checksum 299 = .ok (.iaload, 1) := dk_46 (dk_at dksX4_checksum_12 14 rfl rfl)
theorem dX4_checksum_300 : decode cX4_checksum 300 = .ok (.i2l, 1) := dk_133 (dk_at dksX4_checksum_12 15 rfl rfl)
theorem dX4_checksum_301 : decode cX4_checksum 301 = .ok (.invokevirtual 291, 3) := dk_182 1 35 (dk_at dksX4_checksum_12 16 rfl rfl)
theorem dX4_checksum_304 : decode cX4_checksum 304 = .ok (.iinc 4 1, 3) := dk_132 4 1 (dk_at dksX4_checksum_12 19 rfl rfl)
theorem dX4_checksum_307 : decode cX4_checksum 307 = .ok (.goto (-32), 3) := dk_167 255 224 (dk_at dksX4_checksum_13 0 rfl rfl)
theorem dX4_checksum_310 : decode cX4_checksum 310 = .ok (.iinc 1 1, 3) := dk_132 1 1 (dk_at dksX4_checksum_13 3 rfl rfl)
theorem dX4_checksum_313 : decode cX4_checksum 313 = .ok (.goto (-65), 3) := dk_167 255 191 (dk_at dksX4_checksum_13 6 rfl rfl)
theorem dX4_checksum_316 : decode cX4_checksum 316 = .ok (.iconst 0, 1) := dk_3 (dk_at dksX4_checksum_13 9 rfl rfl)
theorem dX4_checksum_317 : decode cX4_checksum 317 = .ok (.istore_n 1, 1) := dk_60 (dk_at dksX4_checksum_13 10 rfl rfl)
theorem dX4_checksum_318 : decode cX4_checksum 318 = .ok (.iload_n 1, 1) := dk_27 (dk_at dksX4_checksum_13 11 rfl rfl)
theorem dX4_checksum_319 : decode cX4_checksum 319 = .ok (.aload_n 0, 1) := dk_42 (dk_at dksX4_checksum_13 12 rfl rfl)
theorem dX4_checksum_320 : decode cX4_checksum 320 = .ok (.getfield 95, 3) := dk_180 0 95 (dk_at dksX4_checksum_13 13 rfl rfl)
theorem dX4_checksum_323 : decode cX4_checksum 323 = .ok (.if_icmp .ge 36, 3) := dk_162 0 36 (dk_at dksX4_checksum_13 16 rfl rfl)
theorem dX4_checksum_326 : decode cX4_checksum 326 = .ok (.iconst 0, 1) := dk_3 (dk_at dksX4_checksum_13 19 rfl rfl)
theorem dX4_checksum_327 : decode cX4_checksum 327 = .ok (.istore_n 2, 1) := dk_61 (dk_at dksX4_checksum_13 20 rfl rfl)
theorem dX4_checksum_328 : decode cX4_checksum 328 = .ok (.iload_n 2, 1) := dk_28 (dk_at dksX4_checksum_13 21 rfl rfl)
theorem dX4_checksum_329 : decode cX4_checksum 329 = .ok (.bipush 9, 2) := dk_16 9 (dk_at dksX4_checksum_13 22 rfl rfl)
theorem dX4_checksum_331 : decode cX4_checksum 331 = .ok (.if_icmp .ge 22, 3) := dk_162 0 22 (dk_at dksX4_checksum_14 0 rfl rfl)
theorem dX4_checksum_334 : decode cX4_checksum 334 = .ok (.aload_n 0, 1) := dk_42 (dk_at dksX4_checksum_14 3 rfl rfl)
theorem dX4_checksum_335 : decode cX4_checksum 335 = .ok (.aload_n 0, 1) := dk_42 (dk_at dksX4_checksum_14 4 rfl rfl)
theorem dX4_checksum_336 : decode cX4_checksum 336 = .ok (.getfield 80, 3) := dk_180 0 80 (dk_at dksX4_checksum_14 5 rfl rfl)
theorem dX4_checksum_339 : decode cX4_checksum 339 = .ok (.iload_n 1, 1) := dk_27 (dk_at dksX4_checksum_14 8 rfl rfl)
theorem dX4_checksum_340 : decode cX4_checksum 340 = .ok (.aaload, 1) := dk_50 (dk_at dksX4_checksum_14 9 rfl rfl)
theorem dX4_checksum_341 : decode cX4_checksum 341 = .ok (.iload_n 2, 1) := dk_28 (dk_at dksX4_checksum_14 10 rfl rfl)
theorem dX4_checksum_342 : decode cX4_checksum 342 = .ok (.iaload, 1) := dk_46 (dk_at dksX4_checksum_14 11 rfl rfl)
theorem dX4_checksum_343 : decode cX4_checksum 343 = .ok (.i2l, 1) := dk_133 (dk_at dksX4_checksum_14 12 rfl rfl)
theorem dX4_checksum_344 : decode cX4_checksum 344 = .ok (.invokevirtual 291, 3) := dk_182 1 35 (dk_at dksX4_checksum_14 13 rfl rfl)
theorem dX4_checksum_347 : decode cX4_checksum 347 = .ok (.iinc 2 1, 3) := dk_132 2 1 (dk_at dksX4_checksum_14 16 rfl rfl)
theorem dX4_checksum_350 : decode cX4_checksum 350 = .ok (.goto (-22), 3) := dk_167 255 234 (dk_at dksX4_checksum_14 19 rfl rfl)
theorem dX4_checksum_353 : decode cX4_checksum 353 = .ok (.iinc 1 1, 3) := dk_132 1 1 (dk_at dksX4_checksum_15 0 rfl rfl)
theorem dX4_checksum_356 : decode cX4_checksum 356 = .ok (.goto (-38), 3) := dk_167 255 218 (dk_at dksX4_checksum_15 3 rfl rfl)
theorem dX4_checksum_359 : decode cX4_checksum 359 = .ok (.aload_n 0, 1) := dk_42 (dk_at dksX4_checksum_15 6 rfl rfl)
theorem dX4_checksum_360 : decode cX4_checksum 360 = .ok (.getfield 23, 3) := dk_180 0 23 (dk_at dksX4_checksum_15 7 rfl rfl)
theorem dX4_checksum_363 : decode cX4_checksum 363 = .ok (.astore_n 1, 1) := dk_76 (dk_at dksX4_checksum_15 10 rfl rfl)
theorem dX4_checksum_364 : decode cX4_checksum 364 = .ok (.aload_n 1, 1) := dk_43 (dk_at dksX4_checksum_15 11 rfl rfl)
theorem dX4_checksum_365 : decode cX4_checksum 365 = .ok (.arraylength, 1) := dk_190 (dk_at dksX4_checksum_15 12 rfl rfl)
theorem dX4_checksum_366 : decode cX4_checksum 366 = .ok (.istore_n 2, 1) := dk_61 (dk_at dksX4_checksum_15 13 rfl rfl)
theorem dX4_checksum_367 : decode cX4_checksum 367 = .ok (.iconst 0, 1) := dk_3 (dk_at dksX4_checksum_15 14 rfl rfl)
theorem dX4_checksum_368 : decode cX4_checksum 368 = .ok (.istore_n 3, 1) := dk_62 (dk_at dksX4_checksum_15 15 rfl rfl)
theorem dX4_checksum_369 : decode cX4_checksum 369 = .ok (.iload_n 3, 1) := dk_29 (dk_at dksX4_checksum_15 16 rfl rfl)
theorem dX4_checksum_370 : decode cX4_checksum 370 = .ok (.iload_n 2, 1) := dk_28 (dk_at dksX4_checksum_15 17 rfl rfl)
theorem dX4_checksum_371 : decode cX4_checksum 371 = .ok (.if_icmp .ge 21, 3) := dk_162 0 21 (dk_at dksX4_checksum_15 18 rfl rfl)
theorem dX4_checksum_374 : decode cX4_checksum 374 = .ok (.aload_n 1, 1) := dk_43 (dk_at dksX4_checksum_15 21 rfl rfl)
theorem dX4_checksum_375 : decode cX4_checksum 375 = .ok (.iload_n 3, 1) := dk_29 (dk_at dksX4_checksum_15 22 rfl rfl)
theorem dX4_checksum_376 : decode cX4_checksum 376 = .ok (.iaload, 1) := dk_46 (dk_at dksX4_checksum_15 23 rfl rfl)
theorem dX4_checksum_377 : decode cX4_checksum 377 = .ok (.istore 4, 2) := dk_54 4 (dk_at dksX4_checksum_16 0 rfl rfl)
theorem dX4_checksum_379 : decode cX4_checksum 379 = .ok (.aload_n 0, 1) := dk_42 (dk_at dksX4_checksum_16 2 rfl rfl)
theorem dX4_checksum_380 : decode cX4_checksum 380 = .ok (.iload 4, 2) := dk_21 4 (dk_at dksX4_checksum_16 3 rfl rfl)
theorem dX4_checksum_382 : decode cX4_checksum 382 = .ok (.i2l, 1) := dk_133 (dk_at dksX4_checksum_16 5 rfl rfl)
theorem dX4_checksum_383 : decode cX4_checksum 383 = .ok (.invokevirtual 291, 3) := dk_182 1 35 (dk_at dksX4_checksum_16 6 rfl rfl)
theorem dX4_checksum_386 : decode cX4_checksum 386 = .ok (.iinc 3 1, 3) := dk_132 3 1 (dk_at dksX4_checksum_16 9 rfl rfl)
theorem dX4_checksum_389 : decode cX4_checksum 389 = .ok (.goto (-20), 3) := dk_167 255 236 (dk_at dksX4_checksum_16 12 rfl rfl)
theorem dX4_checksum_392 : decode cX4_checksum 392 = .ok (.aload_n 0, 1) := dk_42 (dk_at dksX4_checksum_16 15 rfl rfl)
theorem dX4_checksum_393 : decode cX4_checksum 393 = .ok (.getfield 287, 3) := dk_180 1 31 (dk_at dksX4_checksum_16 16 rfl rfl)
theorem dX4_checksum_396 : decode cX4_checksum 396 = .ok (.lreturn, 1) := dk_173 (dk_at dksX4_checksum_16 19 rfl rfl)
abbrev cX4_add : ByteArray := prog_8_method_77_code
def yX4_add : MethodName := ⟨RX4, "add", "(J)V"⟩
def dkwX4_add_0 : List UInt8 := [42, 20, 0, 110, 42, 180, 1, 31, 105, 31, 97, 181, 1, 31, 177]
abbrev dktX4_add_0 : List UInt8 := dkwX4_add_0 ++ []
theorem dksX4_add_0 : cX4_add.data.toList.drop 0 = dktX4_add_0 := by decide +kernel
theorem dX4_add_0 : decode cX4_add 0 = .ok (.aload_n 0, 1) := dk_42 (dk_at dksX4_add_0 0 rfl rfl)
theorem dX4_add_1 : decode cX4_add 1 = .ok (.ldc2_w 110, 3) := dk_20 0 110 (dk_at dksX4_add_0 1 rfl rfl)
theorem dX4_add_4 : decode cX4_add 4 = .ok (.aload_n 0, 1) := dk_42 (dk_at dksX4_add_0 4 rfl rfl)
theorem dX4_add_5 : decode cX4_add 5 = .ok (.getfield 287, 3) := dk_180 1 31 (dk_at dksX4_add_0 5 rfl rfl)
theorem dX4_add_8 : decode cX4_add 8 = .ok (.lmul, 1) := dk_105 (dk_at dksX4_add_0 8 rfl rfl)
theorem dX4_add_9 : decode cX4_add 9 = .ok (.lload_n 1, 1) := dk_31 (dk_at dksX4_add_0 9 rfl rfl)
theorem dX4_add_10 : decode cX4_add 10 = .ok (.ladd, 1) := dk_97 (dk_at dksX4_add_0 10 rfl rfl)
theorem dX4_add_11 : decode cX4_add 11 = .ok (.putfield 287, 3) := dk_181 1 31 (dk_at dksX4_add_0 11 rfl rfl)
theorem dX4_add_14 : decode cX4_add 14 = .ok (.return_, 1) := dk_177 (dk_at dksX4_add_0 14 rfl rfl)
theorem q71 : (Jvm.Cond.initialized "BurrowlineModel") ∈ lw_all := lw_g (lw_at lw_m1 12 rfl) rfl
theorem q192 : (Jvm.Cond.selects "BurrowlineModel" ({ cls := "java/lang/Object", name := "getClass", desc := "()Ljava/lang/Class;" } : Jvm.MethodName) ({ cls := "java/lang/Object", name := "getClass", desc := "()Ljava/lang/Class;" } : Jvm.MethodName)) ∈ lw_all := lw_g (lw_at lw_m1 133 rfl) rfl
theorem q1057 : (Jvm.Cond.instantiable "BurrowlineModel" (27 : Nat)) ∈ lw_all := lw_g (lw_at lw_m5 38 rfl) rfl
theorem q1059 : (Jvm.Cond.instanceMethod ({ cls := "BurrowlineModel", name := "<init>", desc := "()V" } : Jvm.MethodName)) ∈ lw_all := lw_g (lw_at lw_m5 40 rfl) rfl
theorem q1060 : (Jvm.Cond.code ({ cls := "BurrowlineModel", name := "<init>", desc := "()V" } : Jvm.MethodName) prog_8_method_1_code (3 : Nat) (Option.none : Option Jvm.ClassFile.FieldType)) ∈ lw_all := lw_g (lw_at lw_m5 41 rfl) rfl
theorem q1061 : (Jvm.Cond.methodLink "BurrowlineModel" (1 : Nat) ({ cls := "java/lang/Object", name := "<init>", desc := "()V" } : Jvm.MethodName)) ∈ lw_all := lw_g (lw_at lw_m5 42 rfl) rfl
theorem q1062 : (Jvm.Cond.classLink "BurrowlineModel" (30 : Nat) "[[[I") ∈ lw_all := lw_g (lw_at lw_m5 43 rfl) rfl
theorem q1064 : (Jvm.Cond.classLink "BurrowlineModel" (35 : Nat) "[[I") ∈ lw_all := lw_g (lw_at lw_m5 45 rfl) rfl
theorem q1065 : (Jvm.Cond.classLink "BurrowlineModel" (67 : Nat) "[[[[I") ∈ lw_all := lw_g (lw_at lw_m5 46 rfl) rfl
theorem q1067 : (Jvm.Cond.classLink "BurrowlineModel" (75 : Nat) "[[[[Z") ∈ lw_all := lw_g (lw_at lw_m5 48 rfl) rfl
theorem q1071 : (Jvm.Cond.fieldLink "BurrowlineModel" (129 : Nat) "BurrowlineModel" "now" "I") ∈ lw_all := lw_g (lw_at lw_m5 52 rfl) rfl
theorem q1072 : (Jvm.Cond.fieldLink "BurrowlineModel" (7 : Nat) "BurrowlineModel" "count" "I") ∈ lw_all := lw_g (lw_at lw_m5 53 rfl) rfl
theorem q1073 : (Jvm.Cond.fieldLink "BurrowlineModel" (86 : Nat) "BurrowlineModel" "thrown" "I") ∈ lw_all := lw_g (lw_at lw_m5 54 rfl) rfl
theorem q1074 : (Jvm.Cond.fieldLink "BurrowlineModel" (251 : Nat) "BurrowlineModel" "delivered" "I") ∈ lw_all := lw_g (lw_at lw_m5 55 rfl) rfl
theorem q1075 : (Jvm.Cond.fieldLink "BurrowlineModel" (13 : Nat) "BurrowlineModel" "address" "[I") ∈ lw_all := lw_g (lw_at lw_m5 56 rfl) rfl
theorem q1076 : (Jvm.Cond.fieldLink "BurrowlineModel" (17 : Nat) "BurrowlineModel" "routes" "[I") ∈ lw_all := lw_g (lw_at lw_m5 57 rfl) rfl
theorem q1077 : (Jvm.Cond.fieldLink "BurrowlineModel" (20 : Nat) "BurrowlineModel" "outs" "[I") ∈ lw_all := lw_g (lw_at lw_m5 58 rfl) rfl
theorem q1078 : (Jvm.Cond.fieldLink "BurrowlineModel" (23 : Nat) "BurrowlineModel" "codes" "[I") ∈ lw_all := lw_g (lw_at lw_m5 59 rfl) rfl
theorem q1079 : (Jvm.Cond.fieldLink "BurrowlineModel" (26 : Nat) "BurrowlineModel" "isLoaded" "[Z") ∈ lw_all := lw_g (lw_at lw_m5 60 rfl) rfl
theorem q1080 : (Jvm.Cond.fieldLink "BurrowlineModel" (32 : Nat) "BurrowlineModel" "route" "[[[I") ∈ lw_all := lw_g (lw_at lw_m5 61 rfl) rfl
theorem q1081 : (Jvm.Cond.fieldLink "BurrowlineModel" (37 : Nat) "BurrowlineModel" "known" "[[I") ∈ lw_all := lw_g (lw_at lw_m5 62 rfl) rfl
theorem q1082 : (Jvm.Cond.fieldLink "BurrowlineModel" (40 : Nat) "BurrowlineModel" "taken" "[[I") ∈ lw_all := lw_g (lw_at lw_m5 63 rfl) rfl
theorem q1083 : (Jvm.Cond.fieldLink "BurrowlineModel" (43 : Nat) "BurrowlineModel" "stamped" "[[I") ∈ lw_all := lw_g (lw_at lw_m5 64 rfl) rfl
theorem q1084 : (Jvm.Cond.fieldLink "BurrowlineModel" (46 : Nat) "BurrowlineModel" "flight" "[[I") ∈ lw_all := lw_g (lw_at lw_m5 65 rfl) rfl
theorem q1085 : (Jvm.Cond.fieldLink "BurrowlineModel" (49 : Nat) "BurrowlineModel" "secret" "[[I") ∈ lw_all := lw_g (lw_at lw_m5 66 rfl) rfl
theorem q1086 : (Jvm.Cond.fieldLink "BurrowlineModel" (52 : Nat) "BurrowlineModel" "tag" "[[I") ∈ lw_all := lw_g (lw_at lw_m5 67 rfl) rfl
theorem q1087 : (Jvm.Cond.fieldLink "BurrowlineModel" (55 : Nat) "BurrowlineModel" "sentAt" "[[I") ∈ lw_all := lw_g (lw_at lw_m5 68 rfl) rfl
theorem q1088 : (Jvm.Cond.fieldLink "BurrowlineModel" (58 : Nat) "BurrowlineModel" "cookie" "[[I") ∈ lw_all := lw_g (lw_at lw_m5 69 rfl) rfl
theorem q1089 : (Jvm.Cond.fieldLink "BurrowlineModel" (61 : Nat) "BurrowlineModel" "cookieAt" "[[I") ∈ lw_all := lw_g (lw_at lw_m5 70 rfl) rfl
theorem q1090 : (Jvm.Cond.fieldLink "BurrowlineModel" (64 : Nat) "BurrowlineModel" "waits" "[[I") ∈ lw_all := lw_g (lw_at lw_m5 71 rfl) rfl
theorem q1091 : (Jvm.Cond.fieldLink "BurrowlineModel" (69 : Nat) "BurrowlineModel" "packet" "[[[[I") ∈ lw_all := lw_g (lw_at lw_m5 72 rfl) rfl
theorem q1092 : (Jvm.Cond.fieldLink "BurrowlineModel" (72 : Nat) "BurrowlineModel" "session" "[[[[I") ∈ lw_all := lw_g (lw_at lw_m5 73 rfl) rfl
theorem q1093 : (Jvm.Cond.fieldLink "BurrowlineModel" (77 : Nat) "BurrowlineModel" "took" "[[[[Z") ∈ lw_all := lw_g (lw_at lw_m5 74 rfl) rfl
theorem q1094 : (Jvm.Cond.fieldLink "BurrowlineModel" (80 : Nat) "BurrowlineModel" "letter" "[[I") ∈ lw_all := lw_g (lw_at lw_m5 75 rfl) rfl
theorem q1095 : (Jvm.Cond.fieldLink "BurrowlineModel" (95 : Nat) "BurrowlineModel" "letters" "I") ∈ lw_all := lw_g (lw_at lw_m5 76 rfl) rfl
theorem q1096 : (Jvm.Cond.fieldLink "BurrowlineModel" (83 : Nat) "BurrowlineModel" "out" "[[I") ∈ lw_all := lw_g (lw_at lw_m5 77 rfl) rfl
theorem q1097 : (Jvm.Cond.fieldLink "BurrowlineModel" (287 : Nat) "BurrowlineModel" "sum" "J") ∈ lw_all := lw_g (lw_at lw_m5 78 rfl) rfl
theorem q1098 : (Jvm.Cond.lays "BurrowlineModel" "BurrowlineModel" "now" "I") ∈ lw_all := lw_g (lw_at lw_m5 79 rfl) rfl
theorem q1099 : (Jvm.Cond.soleField "BurrowlineModel" "now") ∈ lw_all := lw_g (lw_at lw_m5 80 rfl) rfl
theorem q1100 : (Jvm.Cond.lays "BurrowlineModel" "BurrowlineModel" "count" "I") ∈ lw_all := lw_g (lw_at lw_m5 81 rfl) rfl
theorem q1101 : (Jvm.Cond.soleField "BurrowlineModel" "count") ∈ lw_all := lw_g (lw_at lw_m5 82 rfl) rfl
theorem q1102 : (Jvm.Cond.lays "BurrowlineModel" "BurrowlineModel" "thrown" "I") ∈ lw_all := lw_g (lw_at lw_m5 83 rfl) rfl
theorem q1103 : (Jvm.Cond.soleField "BurrowlineModel" "thrown") ∈ lw_all := lw_g (lw_at lw_m5 84 rfl) rfl
theorem q1104 : (Jvm.Cond.lays "BurrowlineModel" "BurrowlineModel" "delivered" "I") ∈ lw_all := lw_g (lw_at lw_m5 85 rfl) rfl
theorem q1105 : (Jvm.Cond.soleField "BurrowlineModel" "delivered") ∈ lw_all := lw_g (lw_at lw_m5 86 rfl) rfl
theorem q1106 : (Jvm.Cond.laysFinal "BurrowlineModel" "BurrowlineModel" "address" "[I") ∈ lw_all := lw_g (lw_at lw_m5 87 rfl) rfl
theorem q1107 : (Jvm.Cond.soleField "BurrowlineModel" "address") ∈ lw_all := lw_g (lw_at lw_m5 88 rfl) rfl
theorem q1108 : (Jvm.Cond.laysFinal "BurrowlineModel" "BurrowlineModel" "routes" "[I") ∈ lw_all := lw_g (lw_at lw_m5 89 rfl) rfl
theorem q1109 : (Jvm.Cond.soleField "BurrowlineModel" "routes") ∈ lw_all := lw_g (lw_at lw_m5 90 rfl) rfl
theorem q1110 : (Jvm.Cond.laysFinal "BurrowlineModel" "BurrowlineModel" "outs" "[I") ∈ lw_all := lw_g (lw_at lw_m5 91 rfl) rfl
theorem q1111 : (Jvm.Cond.soleField "BurrowlineModel" "outs") ∈ lw_all := lw_g (lw_at lw_m5 92 rfl) rfl
theorem q1112 : (Jvm.Cond.laysFinal "BurrowlineModel" "BurrowlineModel" "codes" "[I") ∈ lw_all := lw_g (lw_at lw_m5 93 rfl) rfl
theorem q1113 : (Jvm.Cond.soleField "BurrowlineModel" "codes") ∈ lw_all := lw_g (lw_at lw_m5 94 rfl) rfl
theorem q1114 : (Jvm.Cond.laysFinal "BurrowlineModel" "BurrowlineModel" "isLoaded" "[Z") ∈ lw_all := lw_g (lw_at lw_m5 95 rfl) rfl
theorem q1115 : (Jvm.Cond.soleField "BurrowlineModel" "isLoaded") ∈ lw_all := lw_g (lw_at lw_m5 96 rfl) rfl
theorem q1116 : (Jvm.Cond.laysFinal "BurrowlineModel" "BurrowlineModel" "route" "[[[I") ∈ lw_all := lw_g (lw_at lw_m5 97 rfl) rfl
theorem q1117 : (Jvm.Cond.soleField "BurrowlineModel" "route") ∈ lw_all := lw_g (lw_at lw_m5 98 rfl) rfl
theorem q1118 : (Jvm.Cond.laysFinal "BurrowlineModel" "BurrowlineModel" "known" "[[I") ∈ lw_all := lw_g (lw_at lw_m5 99 rfl) rfl
theorem q1119 : (Jvm.Cond.soleField "BurrowlineModel" "known") ∈ lw_all := lw_g (lw_at lw_m5 100 rfl) rfl
theorem q1120 : (Jvm.Cond.laysFinal "BurrowlineModel" "BurrowlineModel" "taken" "[[I") ∈ lw_all := lw_g (lw_at lw_m5 101 rfl) rfl
theorem q1121 : (Jvm.Cond.soleField "BurrowlineModel" "taken") ∈ lw_all := lw_g (lw_at lw_m5 102 rfl) rfl
theorem q1122 : (Jvm.Cond.laysFinal "BurrowlineModel" "BurrowlineModel" "stamped" "[[I") ∈ lw_all := lw_g (lw_at lw_m5 103 rfl) rfl
theorem q1123 : (Jvm.Cond.soleField "BurrowlineModel" "stamped") ∈ lw_all := lw_g (lw_at lw_m5 104 rfl) rfl
theorem q1124 : (Jvm.Cond.laysFinal "BurrowlineModel" "BurrowlineModel" "flight" "[[I") ∈ lw_all := lw_g (lw_at lw_m5 105 rfl) rfl
theorem q1125 : (Jvm.Cond.soleField "BurrowlineModel" "flight") ∈ lw_all := lw_g (lw_at lw_m5 106 rfl) rfl
theorem q1126 : (Jvm.Cond.laysFinal "BurrowlineModel" "BurrowlineModel" "secret" "[[I") ∈ lw_all := lw_g (lw_at lw_m5 107 rfl) rfl
theorem q1127 : (Jvm.Cond.soleField "BurrowlineModel" "secret") ∈ lw_all := lw_g (lw_at lw_m5 108 rfl) rfl
theorem q1128 : (Jvm.Cond.laysFinal "BurrowlineModel" "BurrowlineModel" "tag" "[[I") ∈ lw_all := lw_g (lw_at lw_m5 109 rfl) rfl
theorem q1129 : (Jvm.Cond.soleField "BurrowlineModel" "tag") ∈ lw_all := lw_g (lw_at lw_m5 110 rfl) rfl
theorem q1130 : (Jvm.Cond.laysFinal "BurrowlineModel" "BurrowlineModel" "sentAt" "[[I") ∈ lw_all := lw_g (lw_at lw_m5 111 rfl) rfl
theorem q1131 : (Jvm.Cond.soleField "BurrowlineModel" "sentAt") ∈ lw_all := lw_g (lw_at lw_m5 112 rfl) rfl
theorem q1132 : (Jvm.Cond.laysFinal "BurrowlineModel" "BurrowlineModel" "cookie" "[[I") ∈ lw_all := lw_g (lw_at lw_m5 113 rfl) rfl
theorem q1133 : (Jvm.Cond.soleField "BurrowlineModel" "cookie") ∈ lw_all := lw_g (lw_at lw_m5 114 rfl) rfl
theorem q1134 : (Jvm.Cond.laysFinal "BurrowlineModel" "BurrowlineModel" "cookieAt" "[[I") ∈ lw_all := lw_g (lw_at lw_m5 115 rfl) rfl
theorem q1135 : (Jvm.Cond.soleField "BurrowlineModel" "cookieAt") ∈ lw_all := lw_g (lw_at lw_m5 116 rfl) rfl
theorem q1136 : (Jvm.Cond.laysFinal "BurrowlineModel" "BurrowlineModel" "waits" "[[I") ∈ lw_all := lw_g (lw_at lw_m5 117 rfl) rfl
theorem q1137 : (Jvm.Cond.soleField "BurrowlineModel" "waits") ∈ lw_all := lw_g (lw_at lw_m5 118 rfl) rfl
theorem q1138 : (Jvm.Cond.laysFinal "BurrowlineModel" "BurrowlineModel" "packet" "[[[[I") ∈ lw_all := lw_g (lw_at lw_m5 119 rfl) rfl
theorem q1139 : (Jvm.Cond.soleField "BurrowlineModel" "packet") ∈ lw_all := lw_g (lw_at lw_m5 120 rfl) rfl
theorem q1140 : (Jvm.Cond.laysFinal "BurrowlineModel" "BurrowlineModel" "session" "[[[[I") ∈ lw_all := lw_g (lw_at lw_m5 121 rfl) rfl
theorem q1141 : (Jvm.Cond.soleField "BurrowlineModel" "session") ∈ lw_all := lw_g (lw_at lw_m5 122 rfl) rfl
theorem q1142 : (Jvm.Cond.laysFinal "BurrowlineModel" "BurrowlineModel" "took" "[[[[Z") ∈ lw_all := lw_g (lw_at lw_m5 123 rfl) rfl
theorem q1143 : (Jvm.Cond.soleField "BurrowlineModel" "took") ∈ lw_all := lw_g (lw_at lw_m5 124 rfl) rfl
theorem q1144 : (Jvm.Cond.lays "BurrowlineModel" "BurrowlineModel" "letter" "[[I") ∈ lw_all := lw_g (lw_at lw_m5 125 rfl) rfl
theorem q1145 : (Jvm.Cond.soleField "BurrowlineModel" "letter") ∈ lw_all := lw_g (lw_at lw_m5 126 rfl) rfl
theorem q1146 : (Jvm.Cond.lays "BurrowlineModel" "BurrowlineModel" "letters" "I") ∈ lw_all := lw_g (lw_at lw_m5 127 rfl) rfl
theorem q1147 : (Jvm.Cond.soleField "BurrowlineModel" "letters") ∈ lw_all := lw_g (lw_at lw_m5 128 rfl) rfl
theorem q1148 : (Jvm.Cond.lays "BurrowlineModel" "BurrowlineModel" "out" "[[I") ∈ lw_all := lw_g (lw_at lw_m5 129 rfl) rfl
theorem q1149 : (Jvm.Cond.soleField "BurrowlineModel" "out") ∈ lw_all := lw_g (lw_at lw_m5 130 rfl) rfl
theorem q1150 : (Jvm.Cond.lays "BurrowlineModel" "BurrowlineModel" "sum" "J") ∈ lw_all := lw_g (lw_at lw_m5 131 rfl) rfl
theorem q1151 : (Jvm.Cond.soleField "BurrowlineModel" "sum") ∈ lw_all := lw_g (lw_at lw_m5 132 rfl) rfl
theorem q1152 : (Jvm.Cond.superclass "BurrowlineModel" "java/lang/Object") ∈ lw_all := lw_g (lw_at lw_m5 133 rfl) rfl
theorem q1154 : (Jvm.Cond.instanceMethod ({ cls := "BurrowlineModel", name := "thrown", desc := "()I" } : Jvm.MethodName)) ∈ lw_all := lw_g (lw_at lw_m5 135 rfl) rfl
theorem q1155 : (Jvm.Cond.selects "BurrowlineModel" ({ cls := "BurrowlineModel", name := "thrown", desc := "()I" } : Jvm.MethodName) ({ cls := "BurrowlineModel", name := "thrown", desc := "()I" } : Jvm.MethodName)) ∈ lw_all := lw_g (lw_at lw_m5 136 rfl) rfl
theorem q1156 : (Jvm.Cond.code ({ cls := "BurrowlineModel", name := "thrown", desc := "()I" } : Jvm.MethodName) prog_8_method_2_code (1 : Nat) (Option.some Jvm.ClassFile.FieldType.int)) ∈ lw_all := lw_g (lw_at lw_m5 137 rfl) rfl
theorem q1158 : (Jvm.Cond.instanceMethod ({ cls := "BurrowlineModel", name := "pass", desc := "(I)I" } : Jvm.MethodName)) ∈ lw_all := lw_g (lw_at lw_m5 139 rfl) rfl
theorem q1159 : (Jvm.Cond.selects "BurrowlineModel" ({ cls := "BurrowlineModel", name := "pass", desc := "(I)I" } : Jvm.MethodName) ({ cls := "BurrowlineModel", name := "pass", desc := "(I)I" } : Jvm.MethodName)) ∈ lw_all := lw_g (lw_at lw_m5 140 rfl) rfl
theorem q1160 : (Jvm.Cond.code ({ cls := "BurrowlineModel", name := "pass", desc := "(I)I" } : Jvm.MethodName) prog_8_method_38_code (2 : Nat) (Option.some Jvm.ClassFile.FieldType.int)) ∈ lw_all := lw_g (lw_at lw_m5 141 rfl) rfl
theorem q1161 : (Jvm.Cond.constantLong "BurrowlineModel" (212 : Nat) (60 : Int64)) ∈ lw_all := lw_g (lw_at lw_m5 142 rfl) rfl
theorem q1162 : (Jvm.Cond.methodLink "BurrowlineModel" (91 : Nat) ({ cls := "BurrowlineModel", name := "isBetween", desc := "(JJJ)Z" } : Jvm.MethodName)) ∈ lw_all := lw_g (lw_at lw_m5 143 rfl) rfl
theorem q1163 : (Jvm.Cond.static ({ cls := "BurrowlineModel", name := "isBetween", desc := "(JJJ)Z" } : Jvm.MethodName)) ∈ lw_all := lw_g (lw_at lw_m5 144 rfl) rfl
theorem q1164 : (Jvm.Cond.code ({ cls := "BurrowlineModel", name := "isBetween", desc := "(JJJ)Z" } : Jvm.MethodName) prog_8_method_4_code (6 : Nat) (Option.some Jvm.ClassFile.FieldType.boolean)) ∈ lw_all := lw_g (lw_at lw_m5 145 rfl) rfl
theorem q1165 : (Jvm.Cond.constant "BurrowlineModel" (214 : Nat) (500000000 : Int32)) ∈ lw_all := lw_g (lw_at lw_m5 146 rfl) rfl
theorem q1166 : (Jvm.Cond.methodLink "BurrowlineModel" (215 : Nat) ({ cls := "BurrowlineModel", name := "isWrong", desc := "(I)Z" } : Jvm.MethodName)) ∈ lw_all := lw_g (lw_at lw_m5 147 rfl) rfl
theorem q1167 : (Jvm.Cond.privateMethod ({ cls := "BurrowlineModel", name := "isWrong", desc := "(I)Z" } : Jvm.MethodName)) ∈ lw_tbl := lw_at lw_m5 148 rfl
theorem q1168 : (Jvm.Cond.instanceMethod ({ cls := "BurrowlineModel", name := "isWrong", desc := "(I)Z" } : Jvm.MethodName)) ∈ lw_all := lw_g (lw_at lw_m5 149 rfl) rfl
theorem q1169 : (Jvm.Cond.code ({ cls := "BurrowlineModel", name := "isWrong", desc := "(I)Z" } : Jvm.MethodName) prog_8_method_3_code (2 : Nat) (Option.some Jvm.ClassFile.FieldType.boolean)) ∈ lw_all := lw_g (lw_at lw_m5 150 rfl) rfl
theorem q1171 : (Jvm.Cond.instanceMethod ({ cls := "BurrowlineModel", name := "move", desc := "(II)I" } : Jvm.MethodName)) ∈ lw_all := lw_g (lw_at lw_m5 152 rfl) rfl
theorem q1172 : (Jvm.Cond.selects "BurrowlineModel" ({ cls := "BurrowlineModel", name := "move", desc := "(II)I" } : Jvm.MethodName) ({ cls := "BurrowlineModel", name := "move", desc := "(II)I" } : Jvm.MethodName)) ∈ lw_all := lw_g (lw_at lw_m5 153 rfl) rfl
theorem q1173 : (Jvm.Cond.code ({ cls := "BurrowlineModel", name := "move", desc := "(II)I" } : Jvm.MethodName) prog_8_method_39_code (5 : Nat) (Option.some Jvm.ClassFile.FieldType.int)) ∈ lw_all := lw_g (lw_at lw_m5 154 rfl) rfl
theorem q1174 : (Jvm.Cond.constantLong "BurrowlineModel" (218 : Nat) (99 : Int64)) ∈ lw_all := lw_g (lw_at lw_m5 155 rfl) rfl
theorem q1175 : (Jvm.Cond.methodLink "BurrowlineModel" (98 : Nat) ({ cls := "BurrowlineModel", name := "isEnd", desc := "(I)Z" } : Jvm.MethodName)) ∈ lw_all := lw_g (lw_at lw_m5 156 rfl) rfl
theorem q1176 : (Jvm.Cond.static ({ cls := "BurrowlineModel", name := "isEnd", desc := "(I)Z" } : Jvm.MethodName)) ∈ lw_all := lw_g (lw_at lw_m5 157 rfl) rfl
theorem q1177 : (Jvm.Cond.code ({ cls := "BurrowlineModel", name := "isEnd", desc := "(I)Z" } : Jvm.MethodName) prog_8_method_5_code (1 : Nat) (Option.some Jvm.ClassFile.FieldType.boolean)) ∈ lw_all := lw_g (lw_at lw_m5 158 rfl) rfl
theorem q1178 : (Jvm.Cond.constantLong "BurrowlineModel" (89 : Nat) (2 : Int64)) ∈ lw_all := lw_g (lw_at lw_m5 159 rfl) rfl
theorem q1180 : (Jvm.Cond.instanceMethod ({ cls := "BurrowlineModel", name := "load", desc := "(IZ)Z" } : Jvm.MethodName)) ∈ lw_all := lw_g (lw_at lw_m5 161 rfl) rfl
theorem q1181 : (Jvm.Cond.selects "BurrowlineModel" ({ cls := "BurrowlineModel", name := "load", desc := "(IZ)Z" } : Jvm.MethodName) ({ cls := "BurrowlineModel", name := "load", desc := "(IZ)Z" } : Jvm.MethodName)) ∈ lw_all := lw_g (lw_at lw_m5 162 rfl) rfl
theorem q1182 : (Jvm.Cond.code ({ cls := "BurrowlineModel", name := "load", desc := "(IZ)Z" } : Jvm.MethodName) prog_8_method_40_code (4 : Nat) (Option.some Jvm.ClassFile.FieldType.boolean)) ∈ lw_all := lw_g (lw_at lw_m5 163 rfl) rfl
theorem q1184 : (Jvm.Cond.instanceMethod ({ cls := "BurrowlineModel", name := "allow", desc := "(IIII)I" } : Jvm.MethodName)) ∈ lw_all := lw_g (lw_at lw_m5 165 rfl) rfl
theorem q1185 : (Jvm.Cond.selects "BurrowlineModel" ({ cls := "BurrowlineModel", name := "allow", desc := "(IIII)I" } : Jvm.MethodName) ({ cls := "BurrowlineModel", name := "allow", desc := "(IIII)I" } : Jvm.MethodName)) ∈ lw_all := lw_g (lw_at lw_m5 166 rfl) rfl
theorem q1186 : (Jvm.Cond.code ({ cls := "BurrowlineModel", name := "allow", desc := "(IIII)I" } : Jvm.MethodName) prog_8_method_43_code (9 : Nat) (Option.some Jvm.ClassFile.FieldType.int)) ∈ lw_all := lw_g (lw_at lw_m5 167 rfl) rfl
theorem q1187 : (Jvm.Cond.constantLong "BurrowlineModel" (220 : Nat) (255 : Int64)) ∈ lw_all := lw_g (lw_at lw_m5 168 rfl) rfl
theorem q1188 : (Jvm.Cond.constantLong "BurrowlineModel" (222 : Nat) (8 : Int64)) ∈ lw_all := lw_g (lw_at lw_m5 169 rfl) rfl
theorem q1189 : (Jvm.Cond.methodLink "BurrowlineModel" (224 : Nat) ({ cls := "BurrowlineModel", name := "pair", desc := "(II)I" } : Jvm.MethodName)) ∈ lw_all := lw_g (lw_at lw_m5 170 rfl) rfl
theorem q1190 : (Jvm.Cond.static ({ cls := "BurrowlineModel", name := "pair", desc := "(II)I" } : Jvm.MethodName)) ∈ lw_all := lw_g (lw_at lw_m5 171 rfl) rfl
theorem q1191 : (Jvm.Cond.code ({ cls := "BurrowlineModel", name := "pair", desc := "(II)I" } : Jvm.MethodName) prog_8_method_7_code (2 : Nat) (Option.some Jvm.ClassFile.FieldType.int)) ∈ lw_all := lw_g (lw_at lw_m5 172 rfl) rfl
theorem q1192 : (Jvm.Cond.methodLink "BurrowlineModel" (227 : Nat) ({ cls := "BurrowlineModel", name := "counting", desc := "(II)I" } : Jvm.MethodName)) ∈ lw_all := lw_g (lw_at lw_m5 173 rfl) rfl
theorem q1193 : (Jvm.Cond.static ({ cls := "BurrowlineModel", name := "counting", desc := "(II)I" } : Jvm.MethodName)) ∈ lw_all := lw_g (lw_at lw_m5 174 rfl) rfl
theorem q1194 : (Jvm.Cond.code ({ cls := "BurrowlineModel", name := "counting", desc := "(II)I" } : Jvm.MethodName) prog_8_method_42_code (2 : Nat) (Option.some Jvm.ClassFile.FieldType.int)) ∈ lw_all := lw_g (lw_at lw_m5 175 rfl) rfl
theorem q1195 : (Jvm.Cond.methodLink "BurrowlineModel" (230 : Nat) ({ cls := "BurrowlineModel", name := "place", desc := "(III)I" } : Jvm.MethodName)) ∈ lw_all := lw_g (lw_at lw_m5 176 rfl) rfl
theorem q1196 : (Jvm.Cond.privateMethod ({ cls := "BurrowlineModel", name := "place", desc := "(III)I" } : Jvm.MethodName)) ∈ lw_tbl := lw_at lw_m5 177 rfl
theorem q1197 : (Jvm.Cond.instanceMethod ({ cls := "BurrowlineModel", name := "place", desc := "(III)I" } : Jvm.MethodName)) ∈ lw_all := lw_g (lw_at lw_m5 178 rfl) rfl
theorem q1198 : (Jvm.Cond.code ({ cls := "BurrowlineModel", name := "place", desc := "(III)I" } : Jvm.MethodName) prog_8_method_41_code (5 : Nat) (Option.some Jvm.ClassFile.FieldType.int)) ∈ lw_all := lw_g (lw_at lw_m5 179 rfl) rfl
theorem q1200 : (Jvm.Cond.instanceMethod ({ cls := "BurrowlineModel", name := "forbid", desc := "(III)I" } : Jvm.MethodName)) ∈ lw_all := lw_g (lw_at lw_m5 181 rfl) rfl
theorem q1201 : (Jvm.Cond.selects "BurrowlineModel" ({ cls := "BurrowlineModel", name := "forbid", desc := "(III)I" } : Jvm.MethodName) ({ cls := "BurrowlineModel", name := "forbid", desc := "(III)I" } : Jvm.MethodName)) ∈ lw_all := lw_g (lw_at lw_m5 182 rfl) rfl
theorem q1202 : (Jvm.Cond.code ({ cls := "BurrowlineModel", name := "forbid", desc := "(III)I" } : Jvm.MethodName) prog_8_method_44_code (7 : Nat) (Option.some Jvm.ClassFile.FieldType.int)) ∈ lw_all := lw_g (lw_at lw_m5 183 rfl) rfl
theorem q1204 : (Jvm.Cond.instanceMethod ({ cls := "BurrowlineModel", name := "send", desc := "(IIII)I" } : Jvm.MethodName)) ∈ lw_all := lw_g (lw_at lw_m5 185 rfl) rfl
theorem q1205 : (Jvm.Cond.selects "BurrowlineModel" ({ cls := "BurrowlineModel", name := "send", desc := "(IIII)I" } : Jvm.MethodName) ({ cls := "BurrowlineModel", name := "send", desc := "(IIII)I" } : Jvm.MethodName)) ∈ lw_all := lw_g (lw_at lw_m5 186 rfl) rfl
theorem q1206 : (Jvm.Cond.code ({ cls := "BurrowlineModel", name := "send", desc := "(IIII)I" } : Jvm.MethodName) prog_8_method_45_code (8 : Nat) (Option.some Jvm.ClassFile.FieldType.int)) ∈ lw_all := lw_g (lw_at lw_m5 187 rfl) rfl
theorem q1207 : (Jvm.Cond.constantLong "BurrowlineModel" (233 : Nat) (9999 : Int64)) ∈ lw_all := lw_g (lw_at lw_m5 188 rfl) rfl
theorem q1208 : (Jvm.Cond.methodLink "BurrowlineModel" (196 : Nat) ({ cls := "BurrowlineModel", name := "given", desc := "(II)I" } : Jvm.MethodName)) ∈ lw_all := lw_g (lw_at lw_m5 189 rfl) rfl
theorem q1209 : (Jvm.Cond.privateMethod ({ cls := "BurrowlineModel", name := "given", desc := "(II)I" } : Jvm.MethodName)) ∈ lw_tbl := lw_at lw_m5 190 rfl
theorem q1210 : (Jvm.Cond.instanceMethod ({ cls := "BurrowlineModel", name := "given", desc := "(II)I" } : Jvm.MethodName)) ∈ lw_all := lw_g (lw_at lw_m5 191 rfl) rfl
theorem q1211 : (Jvm.Cond.code ({ cls := "BurrowlineModel", name := "given", desc := "(II)I" } : Jvm.MethodName) prog_8_method_31_code (7 : Nat) (Option.some Jvm.ClassFile.FieldType.int)) ∈ lw_all := lw_g (lw_at lw_m5 192 rfl) rfl
theorem q1212 : (Jvm.Cond.methodLink "BurrowlineModel" (173 : Nat) ({ cls := "BurrowlineModel", name := "usable", desc := "(II)Z" } : Jvm.MethodName)) ∈ lw_all := lw_g (lw_at lw_m5 193 rfl) rfl
theorem q1213 : (Jvm.Cond.privateMethod ({ cls := "BurrowlineModel", name := "usable", desc := "(II)Z" } : Jvm.MethodName)) ∈ lw_tbl := lw_at lw_m5 194 rfl
theorem q1214 : (Jvm.Cond.instanceMethod ({ cls := "BurrowlineModel", name := "usable", desc := "(II)Z" } : Jvm.MethodName)) ∈ lw_all := lw_g (lw_at lw_m5 195 rfl) rfl
theorem q1215 : (Jvm.Cond.code ({ cls := "BurrowlineModel", name := "usable", desc := "(II)Z" } : Jvm.MethodName) prog_8_method_26_code (3 : Nat) (Option.some Jvm.ClassFile.FieldType.boolean)) ∈ lw_all := lw_g (lw_at lw_m5 196 rfl) rfl
theorem q1216 : (Jvm.Cond.methodLink "BurrowlineModel" (166 : Nat) ({ cls := "BurrowlineModel", name := "isThere", desc := "(III)Z" } : Jvm.MethodName)) ∈ lw_all := lw_g (lw_at lw_m5 197 rfl) rfl
theorem q1217 : (Jvm.Cond.privateMethod ({ cls := "BurrowlineModel", name := "isThere", desc := "(III)Z" } : Jvm.MethodName)) ∈ lw_tbl := lw_at lw_m5 198 rfl
theorem q1218 : (Jvm.Cond.instanceMethod ({ cls := "BurrowlineModel", name := "isThere", desc := "(III)Z" } : Jvm.MethodName)) ∈ lw_all := lw_g (lw_at lw_m5 199 rfl) rfl
theorem q1219 : (Jvm.Cond.code ({ cls := "BurrowlineModel", name := "isThere", desc := "(III)Z" } : Jvm.MethodName) prog_8_method_24_code (4 : Nat) (Option.some Jvm.ClassFile.FieldType.boolean)) ∈ lw_all := lw_g (lw_at lw_m5 200 rfl) rfl
theorem q1220 : (Jvm.Cond.methodLink "BurrowlineModel" (170 : Nat) ({ cls := "BurrowlineModel", name := "age", desc := "(III)I" } : Jvm.MethodName)) ∈ lw_all := lw_g (lw_at lw_m5 201 rfl) rfl
theorem q1221 : (Jvm.Cond.privateMethod ({ cls := "BurrowlineModel", name := "age", desc := "(III)I" } : Jvm.MethodName)) ∈ lw_tbl := lw_at lw_m5 202 rfl
theorem q1222 : (Jvm.Cond.instanceMethod ({ cls := "BurrowlineModel", name := "age", desc := "(III)I" } : Jvm.MethodName)) ∈ lw_all := lw_g (lw_at lw_m5 203 rfl) rfl
theorem q1223 : (Jvm.Cond.code ({ cls := "BurrowlineModel", name := "age", desc := "(III)I" } : Jvm.MethodName) prog_8_method_25_code (4 : Nat) (Option.some Jvm.ClassFile.FieldType.int)) ∈ lw_all := lw_g (lw_at lw_m5 204 rfl) rfl
theorem q1224 : (Jvm.Cond.methodLink "BurrowlineModel" (176 : Nat) ({ cls := "BurrowlineModel", name := "data", desc := "(IIIII)V" } : Jvm.MethodName)) ∈ lw_all := lw_g (lw_at lw_m5 205 rfl) rfl
theorem q1225 : (Jvm.Cond.privateMethod ({ cls := "BurrowlineModel", name := "data", desc := "(IIIII)V" } : Jvm.MethodName)) ∈ lw_tbl := lw_at lw_m5 206 rfl
theorem q1226 : (Jvm.Cond.instanceMethod ({ cls := "BurrowlineModel", name := "data", desc := "(IIIII)V" } : Jvm.MethodName)) ∈ lw_all := lw_g (lw_at lw_m5 207 rfl) rfl
theorem q1227 : (Jvm.Cond.code ({ cls := "BurrowlineModel", name := "data", desc := "(IIIII)V" } : Jvm.MethodName) prog_8_method_29_code (8 : Nat) (Option.none : Option Jvm.ClassFile.FieldType)) ∈ lw_all := lw_g (lw_at lw_m5 208 rfl) rfl
theorem q1228 : (Jvm.Cond.methodLink "BurrowlineModel" (154 : Nat) ({ cls := "BurrowlineModel", name := "sealOf", desc := "(I[I)I" } : Jvm.MethodName)) ∈ lw_all := lw_g (lw_at lw_m5 209 rfl) rfl
theorem q1229 : (Jvm.Cond.static ({ cls := "BurrowlineModel", name := "sealOf", desc := "(I[I)I" } : Jvm.MethodName)) ∈ lw_all := lw_g (lw_at lw_m5 210 rfl) rfl
theorem q1230 : (Jvm.Cond.code ({ cls := "BurrowlineModel", name := "sealOf", desc := "(I[I)I" } : Jvm.MethodName) prog_8_method_13_code (10 : Nat) (Option.some Jvm.ClassFile.FieldType.int)) ∈ lw_all := lw_g (lw_at lw_m5 211 rfl) rfl
theorem q1231 : (Jvm.Cond.methodLink "BurrowlineModel" (112 : Nat) ({ cls := "BurrowlineModel", name := "rest", desc := "(J)J" } : Jvm.MethodName)) ∈ lw_all := lw_g (lw_at lw_m5 212 rfl) rfl
theorem q1232 : (Jvm.Cond.static ({ cls := "BurrowlineModel", name := "rest", desc := "(J)J" } : Jvm.MethodName)) ∈ lw_all := lw_g (lw_at lw_m5 213 rfl) rfl
theorem q1233 : (Jvm.Cond.code ({ cls := "BurrowlineModel", name := "rest", desc := "(J)J" } : Jvm.MethodName) prog_8_method_12_code (2 : Nat) (Option.some Jvm.ClassFile.FieldType.long)) ∈ lw_all := lw_g (lw_at lw_m5 214 rfl) rfl
theorem q1234 : (Jvm.Cond.constantLong "BurrowlineModel" (116 : Nat) (65521 : Int64)) ∈ lw_all := lw_g (lw_at lw_m5 215 rfl) rfl
theorem q1235 : (Jvm.Cond.methodLink "BurrowlineModel" (162 : Nat) ({ cls := "BurrowlineModel", name := "put", desc := "(III[I)V" } : Jvm.MethodName)) ∈ lw_all := lw_g (lw_at lw_m5 216 rfl) rfl
theorem q1236 : (Jvm.Cond.privateMethod ({ cls := "BurrowlineModel", name := "put", desc := "(III[I)V" } : Jvm.MethodName)) ∈ lw_tbl := lw_at lw_m5 217 rfl
theorem q1237 : (Jvm.Cond.instanceMethod ({ cls := "BurrowlineModel", name := "put", desc := "(III[I)V" } : Jvm.MethodName)) ∈ lw_all := lw_g (lw_at lw_m5 218 rfl) rfl
theorem q1238 : (Jvm.Cond.code ({ cls := "BurrowlineModel", name := "put", desc := "(III[I)V" } : Jvm.MethodName) prog_8_method_17_code (7 : Nat) (Option.none : Option Jvm.ClassFile.FieldType)) ∈ lw_all := lw_g (lw_at lw_m5 219 rfl) rfl
theorem q1239 : (Jvm.Cond.methodLink "BurrowlineModel" (235 : Nat) ({ cls := "BurrowlineModel", name := "isFresh", desc := "(II)Z" } : Jvm.MethodName)) ∈ lw_all := lw_g (lw_at lw_m5 220 rfl) rfl
theorem q1240 : (Jvm.Cond.privateMethod ({ cls := "BurrowlineModel", name := "isFresh", desc := "(II)Z" } : Jvm.MethodName)) ∈ lw_tbl := lw_at lw_m5 221 rfl
theorem q1241 : (Jvm.Cond.instanceMethod ({ cls := "BurrowlineModel", name := "isFresh", desc := "(II)Z" } : Jvm.MethodName)) ∈ lw_all := lw_g (lw_at lw_m5 222 rfl) rfl
theorem q1242 : (Jvm.Cond.code ({ cls := "BurrowlineModel", name := "isFresh", desc := "(II)Z" } : Jvm.MethodName) prog_8_method_20_code (3 : Nat) (Option.some Jvm.ClassFile.FieldType.boolean)) ∈ lw_all := lw_g (lw_at lw_m5 223 rfl) rfl
theorem q1243 : (Jvm.Cond.methodLink "BurrowlineModel" (238 : Nat) ({ cls := "BurrowlineModel", name := "hello", desc := "(II)I" } : Jvm.MethodName)) ∈ lw_all := lw_g (lw_at lw_m5 224 rfl) rfl
theorem q1244 : (Jvm.Cond.privateMethod ({ cls := "BurrowlineModel", name := "hello", desc := "(II)I" } : Jvm.MethodName)) ∈ lw_tbl := lw_at lw_m5 225 rfl
theorem q1245 : (Jvm.Cond.instanceMethod ({ cls := "BurrowlineModel", name := "hello", desc := "(II)I" } : Jvm.MethodName)) ∈ lw_all := lw_g (lw_at lw_m5 226 rfl) rfl
theorem q1246 : (Jvm.Cond.code ({ cls := "BurrowlineModel", name := "hello", desc := "(II)I" } : Jvm.MethodName) prog_8_method_23_code (8 : Nat) (Option.some Jvm.ClassFile.FieldType.int)) ∈ lw_all := lw_g (lw_at lw_m5 227 rfl) rfl
theorem q1247 : (Jvm.Cond.methodLink "BurrowlineModel" (142 : Nat) ({ cls := "BurrowlineModel", name := "fresh", desc := "(I)I" } : Jvm.MethodName)) ∈ lw_all := lw_g (lw_at lw_m5 228 rfl) rfl
theorem q1248 : (Jvm.Cond.static ({ cls := "BurrowlineModel", name := "fresh", desc := "(I)I" } : Jvm.MethodName)) ∈ lw_all := lw_g (lw_at lw_m5 229 rfl) rfl
theorem q1249 : (Jvm.Cond.code ({ cls := "BurrowlineModel", name := "fresh", desc := "(I)I" } : Jvm.MethodName) prog_8_method_16_code (1 : Nat) (Option.some Jvm.ClassFile.FieldType.int)) ∈ lw_all := lw_g (lw_at lw_m5 230 rfl) rfl
theorem q1250 : (Jvm.Cond.constantLong "BurrowlineModel" (125 : Nat) (577 : Int64)) ∈ lw_all := lw_g (lw_at lw_m5 231 rfl) rfl
theorem q1251 : (Jvm.Cond.constantLong "BurrowlineModel" (127 : Nat) (1018 : Int64)) ∈ lw_all := lw_g (lw_at lw_m5 232 rfl) rfl
theorem q1252 : (Jvm.Cond.methodLink "BurrowlineModel" (145 : Nat) ({ cls := "java/lang/Math", name := "max", desc := "(II)I" } : Jvm.MethodName)) ∈ lw_all := lw_g (lw_at lw_m5 233 rfl) rfl
theorem q1253 : (Jvm.Cond.methodLink "BurrowlineModel" (150 : Nat) ({ cls := "BurrowlineModel", name := "keyOf", desc := "(III)I" } : Jvm.MethodName)) ∈ lw_all := lw_g (lw_at lw_m5 234 rfl) rfl
theorem q1254 : (Jvm.Cond.privateMethod ({ cls := "BurrowlineModel", name := "keyOf", desc := "(III)I" } : Jvm.MethodName)) ∈ lw_tbl := lw_at lw_m5 235 rfl
theorem q1255 : (Jvm.Cond.instanceMethod ({ cls := "BurrowlineModel", name := "keyOf", desc := "(III)I" } : Jvm.MethodName)) ∈ lw_all := lw_g (lw_at lw_m5 236 rfl) rfl
theorem q1256 : (Jvm.Cond.code ({ cls := "BurrowlineModel", name := "keyOf", desc := "(III)I" } : Jvm.MethodName) prog_8_method_21_code (4 : Nat) (Option.some Jvm.ClassFile.FieldType.int)) ∈ lw_all := lw_g (lw_at lw_m5 237 rfl) rfl
theorem q1257 : (Jvm.Cond.methodLink "BurrowlineModel" (132 : Nat) ({ cls := "BurrowlineModel", name := "nameOf", desc := "(I)I" } : Jvm.MethodName)) ∈ lw_all := lw_g (lw_at lw_m5 238 rfl) rfl
theorem q1258 : (Jvm.Cond.static ({ cls := "BurrowlineModel", name := "nameOf", desc := "(I)I" } : Jvm.MethodName)) ∈ lw_all := lw_g (lw_at lw_m5 239 rfl) rfl
theorem q1259 : (Jvm.Cond.code ({ cls := "BurrowlineModel", name := "nameOf", desc := "(I)I" } : Jvm.MethodName) prog_8_method_15_code (1 : Nat) (Option.some Jvm.ClassFile.FieldType.int)) ∈ lw_all := lw_g (lw_at lw_m6 0 rfl) rfl
theorem q1260 : (Jvm.Cond.methodLink "BurrowlineModel" (118 : Nat) ({ cls := "BurrowlineModel", name := "secretOf", desc := "(I)I" } : Jvm.MethodName)) ∈ lw_all := lw_g (lw_at lw_m6 1 rfl) rfl
theorem q1261 : (Jvm.Cond.static ({ cls := "BurrowlineModel", name := "secretOf", desc := "(I)I" } : Jvm.MethodName)) ∈ lw_all := lw_g (lw_at lw_m6 2 rfl) rfl
theorem q1262 : (Jvm.Cond.code ({ cls := "BurrowlineModel", name := "secretOf", desc := "(I)I" } : Jvm.MethodName) prog_8_method_14_code (1 : Nat) (Option.some Jvm.ClassFile.FieldType.int)) ∈ lw_all := lw_g (lw_at lw_m6 3 rfl) rfl
theorem q1263 : (Jvm.Cond.methodLink "BurrowlineModel" (122 : Nat) ({ cls := "BurrowlineModel", name := "open", desc := "(I)I" } : Jvm.MethodName)) ∈ lw_all := lw_g (lw_at lw_m6 4 rfl) rfl
theorem q1264 : (Jvm.Cond.static ({ cls := "BurrowlineModel", name := "open", desc := "(I)I" } : Jvm.MethodName)) ∈ lw_all := lw_g (lw_at lw_m6 5 rfl) rfl
theorem q1265 : (Jvm.Cond.code ({ cls := "BurrowlineModel", name := "open", desc := "(I)I" } : Jvm.MethodName) prog_8_method_9_code (1 : Nat) (Option.some Jvm.ClassFile.FieldType.int)) ∈ lw_all := lw_g (lw_at lw_m6 6 rfl) rfl
theorem q1266 : (Jvm.Cond.methodLink "BurrowlineModel" (104 : Nat) ({ cls := "BurrowlineModel", name := "power", desc := "(II)I" } : Jvm.MethodName)) ∈ lw_all := lw_g (lw_at lw_m6 7 rfl) rfl
theorem q1267 : (Jvm.Cond.static ({ cls := "BurrowlineModel", name := "power", desc := "(II)I" } : Jvm.MethodName)) ∈ lw_all := lw_g (lw_at lw_m6 8 rfl) rfl
theorem q1268 : (Jvm.Cond.code ({ cls := "BurrowlineModel", name := "power", desc := "(II)I" } : Jvm.MethodName) prog_8_method_8_code (7 : Nat) (Option.some Jvm.ClassFile.FieldType.int)) ∈ lw_all := lw_g (lw_at lw_m6 9 rfl) rfl
theorem q1269 : (Jvm.Cond.constantLong "BurrowlineModel" (102 : Nat) (2039 : Int64)) ∈ lw_all := lw_g (lw_at lw_m6 10 rfl) rfl
theorem q1270 : (Jvm.Cond.methodLink "BurrowlineModel" (135 : Nat) ({ cls := "BurrowlineModel", name := "both", desc := "(II)I" } : Jvm.MethodName)) ∈ lw_all := lw_g (lw_at lw_m6 11 rfl) rfl
theorem q1271 : (Jvm.Cond.static ({ cls := "BurrowlineModel", name := "both", desc := "(II)I" } : Jvm.MethodName)) ∈ lw_all := lw_g (lw_at lw_m6 12 rfl) rfl
theorem q1272 : (Jvm.Cond.code ({ cls := "BurrowlineModel", name := "both", desc := "(II)I" } : Jvm.MethodName) prog_8_method_10_code (2 : Nat) (Option.some Jvm.ClassFile.FieldType.int)) ∈ lw_all := lw_g (lw_at lw_m6 13 rfl) rfl
theorem q1273 : (Jvm.Cond.methodLink "BurrowlineModel" (138 : Nat) ({ cls := "BurrowlineModel", name := "mix", desc := "([I)I" } : Jvm.MethodName)) ∈ lw_all := lw_g (lw_at lw_m6 14 rfl) rfl
theorem q1274 : (Jvm.Cond.static ({ cls := "BurrowlineModel", name := "mix", desc := "([I)I" } : Jvm.MethodName)) ∈ lw_all := lw_g (lw_at lw_m6 15 rfl) rfl
theorem q1275 : (Jvm.Cond.code ({ cls := "BurrowlineModel", name := "mix", desc := "([I)I" } : Jvm.MethodName) prog_8_method_11_code (7 : Nat) (Option.some Jvm.ClassFile.FieldType.int)) ∈ lw_all := lw_g (lw_at lw_m6 16 rfl) rfl
theorem q1276 : (Jvm.Cond.constantLong "BurrowlineModel" (108 : Nat) (17 : Int64)) ∈ lw_all := lw_g (lw_at lw_m6 17 rfl) rfl
theorem q1277 : (Jvm.Cond.constantLong "BurrowlineModel" (110 : Nat) (31 : Int64)) ∈ lw_all := lw_g (lw_at lw_m6 18 rfl) rfl
theorem q1278 : (Jvm.Cond.methodLink "BurrowlineModel" (158 : Nat) ({ cls := "BurrowlineModel", name := "hasCookie", desc := "(II)Z" } : Jvm.MethodName)) ∈ lw_all := lw_g (lw_at lw_m6 19 rfl) rfl
theorem q1279 : (Jvm.Cond.privateMethod ({ cls := "BurrowlineModel", name := "hasCookie", desc := "(II)Z" } : Jvm.MethodName)) ∈ lw_tbl := lw_at lw_m6 20 rfl
theorem q1280 : (Jvm.Cond.instanceMethod ({ cls := "BurrowlineModel", name := "hasCookie", desc := "(II)Z" } : Jvm.MethodName)) ∈ lw_all := lw_g (lw_at lw_m6 21 rfl) rfl
theorem q1281 : (Jvm.Cond.code ({ cls := "BurrowlineModel", name := "hasCookie", desc := "(II)Z" } : Jvm.MethodName) prog_8_method_22_code (3 : Nat) (Option.some Jvm.ClassFile.FieldType.boolean)) ∈ lw_all := lw_g (lw_at lw_m6 22 rfl) rfl
theorem q1283 : (Jvm.Cond.instanceMethod ({ cls := "BurrowlineModel", name := "keep", desc := "(II)Z" } : Jvm.MethodName)) ∈ lw_all := lw_g (lw_at lw_m6 24 rfl) rfl
theorem q1284 : (Jvm.Cond.selects "BurrowlineModel" ({ cls := "BurrowlineModel", name := "keep", desc := "(II)Z" } : Jvm.MethodName) ({ cls := "BurrowlineModel", name := "keep", desc := "(II)Z" } : Jvm.MethodName)) ∈ lw_all := lw_g (lw_at lw_m6 25 rfl) rfl
theorem q1285 : (Jvm.Cond.code ({ cls := "BurrowlineModel", name := "keep", desc := "(II)Z" } : Jvm.MethodName) prog_8_method_46_code (3 : Nat) (Option.some Jvm.ClassFile.FieldType.boolean)) ∈ lw_all := lw_g (lw_at lw_m6 26 rfl) rfl
theorem q1287 : (Jvm.Cond.instanceMethod ({ cls := "BurrowlineModel", name := "greet", desc := "(II)I" } : Jvm.MethodName)) ∈ lw_all := lw_g (lw_at lw_m6 28 rfl) rfl
theorem q1288 : (Jvm.Cond.selects "BurrowlineModel" ({ cls := "BurrowlineModel", name := "greet", desc := "(II)I" } : Jvm.MethodName) ({ cls := "BurrowlineModel", name := "greet", desc := "(II)I" } : Jvm.MethodName)) ∈ lw_all := lw_g (lw_at lw_m6 29 rfl) rfl
theorem q1289 : (Jvm.Cond.code ({ cls := "BurrowlineModel", name := "greet", desc := "(II)I" } : Jvm.MethodName) prog_8_method_47_code (4 : Nat) (Option.some Jvm.ClassFile.FieldType.int)) ∈ lw_all := lw_g (lw_at lw_m6 30 rfl) rfl
theorem q1291 : (Jvm.Cond.instanceMethod ({ cls := "BurrowlineModel", name := "deliver", desc := "(I)I" } : Jvm.MethodName)) ∈ lw_all := lw_g (lw_at lw_m6 32 rfl) rfl
theorem q1292 : (Jvm.Cond.selects "BurrowlineModel" ({ cls := "BurrowlineModel", name := "deliver", desc := "(I)I" } : Jvm.MethodName) ({ cls := "BurrowlineModel", name := "deliver", desc := "(I)I" } : Jvm.MethodName)) ∈ lw_all := lw_g (lw_at lw_m6 33 rfl) rfl
theorem q1293 : (Jvm.Cond.code ({ cls := "BurrowlineModel", name := "deliver", desc := "(I)I" } : Jvm.MethodName) prog_8_method_48_code (4 : Nat) (Option.some Jvm.ClassFile.FieldType.int)) ∈ lw_all := lw_g (lw_at lw_m6 34 rfl) rfl
theorem q1294 : (Jvm.Cond.methodLink "BurrowlineModel" (241 : Nat) ({ cls := "BurrowlineModel", name := "isLetter", desc := "(I)Z" } : Jvm.MethodName)) ∈ lw_all := lw_g (lw_at lw_m6 35 rfl) rfl
theorem q1295 : (Jvm.Cond.privateMethod ({ cls := "BurrowlineModel", name := "isLetter", desc := "(I)Z" } : Jvm.MethodName)) ∈ lw_tbl := lw_at lw_m6 36 rfl
theorem q1296 : (Jvm.Cond.instanceMethod ({ cls := "BurrowlineModel", name := "isLetter", desc := "(I)Z" } : Jvm.MethodName)) ∈ lw_all := lw_g (lw_at lw_m6 37 rfl) rfl
theorem q1297 : (Jvm.Cond.code ({ cls := "BurrowlineModel", name := "isLetter", desc := "(I)Z" } : Jvm.MethodName) prog_8_method_6_code (2 : Nat) (Option.some Jvm.ClassFile.FieldType.boolean)) ∈ lw_all := lw_g (lw_at lw_m6 38 rfl) rfl
theorem q1298 : (Jvm.Cond.methodLink "BurrowlineModel" (244 : Nat) ({ cls := "BurrowlineModel", name := "take", desc := "(I)V" } : Jvm.MethodName)) ∈ lw_all := lw_g (lw_at lw_m6 39 rfl) rfl
theorem q1299 : (Jvm.Cond.privateMethod ({ cls := "BurrowlineModel", name := "take", desc := "(I)V" } : Jvm.MethodName)) ∈ lw_tbl := lw_at lw_m6 40 rfl
theorem q1300 : (Jvm.Cond.instanceMethod ({ cls := "BurrowlineModel", name := "take", desc := "(I)V" } : Jvm.MethodName)) ∈ lw_all := lw_g (lw_at lw_m6 41 rfl) rfl
theorem q1301 : (Jvm.Cond.code ({ cls := "BurrowlineModel", name := "take", desc := "(I)V" } : Jvm.MethodName) prog_8_method_18_code (3 : Nat) (Option.none : Option Jvm.ClassFile.FieldType)) ∈ lw_all := lw_g (lw_at lw_m6 42 rfl) rfl
theorem q1302 : (Jvm.Cond.methodLink "BurrowlineModel" (248 : Nat) ({ cls := "BurrowlineModel", name := "got", desc := "([I)I" } : Jvm.MethodName)) ∈ lw_all := lw_g (lw_at lw_m6 43 rfl) rfl
theorem q1303 : (Jvm.Cond.privateMethod ({ cls := "BurrowlineModel", name := "got", desc := "([I)I" } : Jvm.MethodName)) ∈ lw_tbl := lw_at lw_m6 44 rfl
theorem q1304 : (Jvm.Cond.instanceMethod ({ cls := "BurrowlineModel", name := "got", desc := "([I)I" } : Jvm.MethodName)) ∈ lw_all := lw_g (lw_at lw_m6 45 rfl) rfl
theorem q1305 : (Jvm.Cond.code ({ cls := "BurrowlineModel", name := "got", desc := "([I)I" } : Jvm.MethodName) prog_8_method_37_code (4 : Nat) (Option.some Jvm.ClassFile.FieldType.int)) ∈ lw_all := lw_g (lw_at lw_m6 46 rfl) rfl
theorem q1306 : (Jvm.Cond.methodLink "BurrowlineModel" (200 : Nat) ({ cls := "BurrowlineModel", name := "gotHello", desc := "(I[I)I" } : Jvm.MethodName)) ∈ lw_all := lw_g (lw_at lw_m6 47 rfl) rfl
theorem q1307 : (Jvm.Cond.privateMethod ({ cls := "BurrowlineModel", name := "gotHello", desc := "(I[I)I" } : Jvm.MethodName)) ∈ lw_tbl := lw_at lw_m6 48 rfl
theorem q1308 : (Jvm.Cond.instanceMethod ({ cls := "BurrowlineModel", name := "gotHello", desc := "(I[I)I" } : Jvm.MethodName)) ∈ lw_all := lw_g (lw_at lw_m6 49 rfl) rfl
theorem q1309 : (Jvm.Cond.code ({ cls := "BurrowlineModel", name := "gotHello", desc := "(I[I)I" } : Jvm.MethodName) prog_8_method_32_code (14 : Nat) (Option.some Jvm.ClassFile.FieldType.int)) ∈ lw_all := lw_g (lw_at lw_m6 50 rfl) rfl
theorem q1310 : (Jvm.Cond.methodLink "BurrowlineModel" (180 : Nat) ({ cls := "BurrowlineModel", name := "make", desc := "(IIIIIIII)V" } : Jvm.MethodName)) ∈ lw_all := lw_g (lw_at lw_m6 51 rfl) rfl
theorem q1311 : (Jvm.Cond.privateMethod ({ cls := "BurrowlineModel", name := "make", desc := "(IIIIIIII)V" } : Jvm.MethodName)) ∈ lw_tbl := lw_at lw_m6 52 rfl
theorem q1312 : (Jvm.Cond.instanceMethod ({ cls := "BurrowlineModel", name := "make", desc := "(IIIIIIII)V" } : Jvm.MethodName)) ∈ lw_all := lw_g (lw_at lw_m6 53 rfl) rfl
theorem q1313 : (Jvm.Cond.code ({ cls := "BurrowlineModel", name := "make", desc := "(IIIIIIII)V" } : Jvm.MethodName) prog_8_method_27_code (9 : Nat) (Option.none : Option Jvm.ClassFile.FieldType)) ∈ lw_all := lw_g (lw_at lw_m6 54 rfl) rfl
theorem q1314 : (Jvm.Cond.methodLink "BurrowlineModel" (203 : Nat) ({ cls := "BurrowlineModel", name := "gotReply", desc := "(I[I)I" } : Jvm.MethodName)) ∈ lw_all := lw_g (lw_at lw_m6 55 rfl) rfl
theorem q1315 : (Jvm.Cond.privateMethod ({ cls := "BurrowlineModel", name := "gotReply", desc := "(I[I)I" } : Jvm.MethodName)) ∈ lw_tbl := lw_at lw_m6 56 rfl
theorem q1316 : (Jvm.Cond.instanceMethod ({ cls := "BurrowlineModel", name := "gotReply", desc := "(I[I)I" } : Jvm.MethodName)) ∈ lw_all := lw_g (lw_at lw_m6 57 rfl) rfl
theorem q1317 : (Jvm.Cond.code ({ cls := "BurrowlineModel", name := "gotReply", desc := "(I[I)I" } : Jvm.MethodName) prog_8_method_34_code (9 : Nat) (Option.some Jvm.ClassFile.FieldType.int)) ∈ lw_all := lw_g (lw_at lw_m6 58 rfl) rfl
theorem q1318 : (Jvm.Cond.methodLink "BurrowlineModel" (184 : Nat) ({ cls := "BurrowlineModel", name := "inFlight", desc := "(II)I" } : Jvm.MethodName)) ∈ lw_all := lw_g (lw_at lw_m6 59 rfl) rfl
theorem q1319 : (Jvm.Cond.privateMethod ({ cls := "BurrowlineModel", name := "inFlight", desc := "(II)I" } : Jvm.MethodName)) ∈ lw_tbl := lw_at lw_m6 60 rfl
theorem q1320 : (Jvm.Cond.instanceMethod ({ cls := "BurrowlineModel", name := "inFlight", desc := "(II)I" } : Jvm.MethodName)) ∈ lw_all := lw_g (lw_at lw_m6 61 rfl) rfl
theorem q1321 : (Jvm.Cond.code ({ cls := "BurrowlineModel", name := "inFlight", desc := "(II)I" } : Jvm.MethodName) prog_8_method_33_code (4 : Nat) (Option.some Jvm.ClassFile.FieldType.int)) ∈ lw_all := lw_g (lw_at lw_m6 62 rfl) rfl
theorem q1322 : (Jvm.Cond.methodLink "BurrowlineModel" (187 : Nat) ({ cls := "BurrowlineModel", name := "turnOver", desc := "(II)V" } : Jvm.MethodName)) ∈ lw_all := lw_g (lw_at lw_m6 63 rfl) rfl
theorem q1323 : (Jvm.Cond.privateMethod ({ cls := "BurrowlineModel", name := "turnOver", desc := "(II)V" } : Jvm.MethodName)) ∈ lw_tbl := lw_at lw_m6 64 rfl
theorem q1324 : (Jvm.Cond.instanceMethod ({ cls := "BurrowlineModel", name := "turnOver", desc := "(II)V" } : Jvm.MethodName)) ∈ lw_all := lw_g (lw_at lw_m6 65 rfl) rfl
theorem q1325 : (Jvm.Cond.code ({ cls := "BurrowlineModel", name := "turnOver", desc := "(II)V" } : Jvm.MethodName) prog_8_method_28_code (3 : Nat) (Option.none : Option Jvm.ClassFile.FieldType)) ∈ lw_all := lw_g (lw_at lw_m6 66 rfl) rfl
theorem q1326 : (Jvm.Cond.methodLink "BurrowlineModel" (191 : Nat) ({ cls := "BurrowlineModel", name := "sendWaiting", desc := "(II)V" } : Jvm.MethodName)) ∈ lw_all := lw_g (lw_at lw_m6 67 rfl) rfl
theorem q1327 : (Jvm.Cond.privateMethod ({ cls := "BurrowlineModel", name := "sendWaiting", desc := "(II)V" } : Jvm.MethodName)) ∈ lw_tbl := lw_at lw_m6 68 rfl
theorem q1328 : (Jvm.Cond.instanceMethod ({ cls := "BurrowlineModel", name := "sendWaiting", desc := "(II)V" } : Jvm.MethodName)) ∈ lw_all := lw_g (lw_at lw_m6 69 rfl) rfl
theorem q1329 : (Jvm.Cond.code ({ cls := "BurrowlineModel", name := "sendWaiting", desc := "(II)V" } : Jvm.MethodName) prog_8_method_30_code (5 : Nat) (Option.none : Option Jvm.ClassFile.FieldType)) ∈ lw_all := lw_g (lw_at lw_m6 70 rfl) rfl
theorem q1330 : (Jvm.Cond.methodLink "BurrowlineModel" (206 : Nat) ({ cls := "BurrowlineModel", name := "gotCookie", desc := "(I[I)I" } : Jvm.MethodName)) ∈ lw_all := lw_g (lw_at lw_m6 71 rfl) rfl
theorem q1331 : (Jvm.Cond.privateMethod ({ cls := "BurrowlineModel", name := "gotCookie", desc := "(I[I)I" } : Jvm.MethodName)) ∈ lw_tbl := lw_at lw_m6 72 rfl
theorem q1332 : (Jvm.Cond.instanceMethod ({ cls := "BurrowlineModel", name := "gotCookie", desc := "(I[I)I" } : Jvm.MethodName)) ∈ lw_all := lw_g (lw_at lw_m6 73 rfl) rfl
theorem q1333 : (Jvm.Cond.code ({ cls := "BurrowlineModel", name := "gotCookie", desc := "(I[I)I" } : Jvm.MethodName) prog_8_method_35_code (6 : Nat) (Option.some Jvm.ClassFile.FieldType.int)) ∈ lw_all := lw_g (lw_at lw_m6 74 rfl) rfl
theorem q1334 : (Jvm.Cond.methodLink "BurrowlineModel" (209 : Nat) ({ cls := "BurrowlineModel", name := "gotData", desc := "(I[I)I" } : Jvm.MethodName)) ∈ lw_all := lw_g (lw_at lw_m6 75 rfl) rfl
theorem q1335 : (Jvm.Cond.privateMethod ({ cls := "BurrowlineModel", name := "gotData", desc := "(I[I)I" } : Jvm.MethodName)) ∈ lw_tbl := lw_at lw_m6 76 rfl
theorem q1336 : (Jvm.Cond.instanceMethod ({ cls := "BurrowlineModel", name := "gotData", desc := "(I[I)I" } : Jvm.MethodName)) ∈ lw_all := lw_g (lw_at lw_m6 77 rfl) rfl
theorem q1337 : (Jvm.Cond.code ({ cls := "BurrowlineModel", name := "gotData", desc := "(I[I)I" } : Jvm.MethodName) prog_8_method_36_code (13 : Nat) (Option.some Jvm.ClassFile.FieldType.int)) ∈ lw_all := lw_g (lw_at lw_m6 78 rfl) rfl
theorem q1338 : (Jvm.Cond.constantLong "BurrowlineModel" (194 : Nat) (39 : Int64)) ∈ lw_all := lw_g (lw_at lw_m6 79 rfl) rfl
theorem q1339 : (Jvm.Cond.classLink "BurrowlineModel" (199 : Nat) "[I") ∈ lw_all := lw_g (lw_at lw_m6 80 rfl) rfl
theorem q1341 : (Jvm.Cond.instanceMethod ({ cls := "BurrowlineModel", name := "lose", desc := "(I)I" } : Jvm.MethodName)) ∈ lw_all := lw_g (lw_at lw_m6 82 rfl) rfl
theorem q1342 : (Jvm.Cond.selects "BurrowlineModel" ({ cls := "BurrowlineModel", name := "lose", desc := "(I)I" } : Jvm.MethodName) ({ cls := "BurrowlineModel", name := "lose", desc := "(I)I" } : Jvm.MethodName)) ∈ lw_all := lw_g (lw_at lw_m6 83 rfl) rfl
theorem q1343 : (Jvm.Cond.code ({ cls := "BurrowlineModel", name := "lose", desc := "(I)I" } : Jvm.MethodName) prog_8_method_49_code (2 : Nat) (Option.some Jvm.ClassFile.FieldType.int)) ∈ lw_all := lw_g (lw_at lw_m6 84 rfl) rfl
theorem q1345 : (Jvm.Cond.instanceMethod ({ cls := "BurrowlineModel", name := "twice", desc := "(I)I" } : Jvm.MethodName)) ∈ lw_all := lw_g (lw_at lw_m6 86 rfl) rfl
theorem q1346 : (Jvm.Cond.selects "BurrowlineModel" ({ cls := "BurrowlineModel", name := "twice", desc := "(I)I" } : Jvm.MethodName) ({ cls := "BurrowlineModel", name := "twice", desc := "(I)I" } : Jvm.MethodName)) ∈ lw_all := lw_g (lw_at lw_m6 87 rfl) rfl
theorem q1347 : (Jvm.Cond.code ({ cls := "BurrowlineModel", name := "twice", desc := "(I)I" } : Jvm.MethodName) prog_8_method_50_code (2 : Nat) (Option.some Jvm.ClassFile.FieldType.int)) ∈ lw_all := lw_g (lw_at lw_m6 88 rfl) rfl
theorem q1348 : (Jvm.Cond.methodLink "BurrowlineModel" (254 : Nat) ({ cls := "[I", name := "clone", desc := "()Ljava/lang/Object;" } : Jvm.MethodName)) ∈ lw_all := lw_g (lw_at lw_m6 89 rfl) rfl
theorem q1355 : (Jvm.Cond.instanceMethod ({ cls := "BurrowlineModel", name := "turn", desc := "(III)I" } : Jvm.MethodName)) ∈ lw_all := lw_g (lw_at lw_m6 96 rfl) rfl
theorem q1356 : (Jvm.Cond.selects "BurrowlineModel" ({ cls := "BurrowlineModel", name := "turn", desc := "(III)I" } : Jvm.MethodName) ({ cls := "BurrowlineModel", name := "turn", desc := "(III)I" } : Jvm.MethodName)) ∈ lw_all := lw_g (lw_at lw_m6 97 rfl) rfl
theorem q1357 : (Jvm.Cond.code ({ cls := "BurrowlineModel", name := "turn", desc := "(III)I" } : Jvm.MethodName) prog_8_method_52_code (5 : Nat) (Option.some Jvm.ClassFile.FieldType.int)) ∈ lw_all := lw_g (lw_at lw_m6 98 rfl) rfl
theorem q1358 : (Jvm.Cond.methodLink "BurrowlineModel" (260 : Nat) ({ cls := "BurrowlineModel", name := "canTurn", desc := "(II)Z" } : Jvm.MethodName)) ∈ lw_all := lw_g (lw_at lw_m6 99 rfl) rfl
theorem q1359 : (Jvm.Cond.static ({ cls := "BurrowlineModel", name := "canTurn", desc := "(II)Z" } : Jvm.MethodName)) ∈ lw_all := lw_g (lw_at lw_m6 100 rfl) rfl
theorem q1360 : (Jvm.Cond.code ({ cls := "BurrowlineModel", name := "canTurn", desc := "(II)Z" } : Jvm.MethodName) prog_8_method_51_code (2 : Nat) (Option.some Jvm.ClassFile.FieldType.boolean)) ∈ lw_all := lw_g (lw_at lw_m6 101 rfl) rfl
theorem q1361 : (Jvm.Cond.constantLong "BurrowlineModel" (258 : Nat) (5 : Int64)) ∈ lw_all := lw_g (lw_at lw_m6 102 rfl) rfl
theorem q1362 : (Jvm.Cond.constantLong "BurrowlineModel" (263 : Nat) (-500 : Int64)) ∈ lw_all := lw_g (lw_at lw_m6 103 rfl) rfl
theorem q1363 : (Jvm.Cond.constantLong "BurrowlineModel" (265 : Nat) (500 : Int64)) ∈ lw_all := lw_g (lw_at lw_m6 104 rfl) rfl
theorem q1364 : (Jvm.Cond.constantLong "BurrowlineModel" (267 : Nat) (-10000 : Int64)) ∈ lw_all := lw_g (lw_at lw_m6 105 rfl) rfl
theorem q1365 : (Jvm.Cond.constantLong "BurrowlineModel" (269 : Nat) (10000 : Int64)) ∈ lw_all := lw_g (lw_at lw_m6 106 rfl) rfl
theorem q1367 : (Jvm.Cond.instanceMethod ({ cls := "BurrowlineModel", name := "reroute", desc := "(II)I" } : Jvm.MethodName)) ∈ lw_all := lw_g (lw_at lw_m6 108 rfl) rfl
theorem q1368 : (Jvm.Cond.selects "BurrowlineModel" ({ cls := "BurrowlineModel", name := "reroute", desc := "(II)I" } : Jvm.MethodName) ({ cls := "BurrowlineModel", name := "reroute", desc := "(II)I" } : Jvm.MethodName)) ∈ lw_all := lw_g (lw_at lw_m6 109 rfl) rfl
theorem q1369 : (Jvm.Cond.code ({ cls := "BurrowlineModel", name := "reroute", desc := "(II)I" } : Jvm.MethodName) prog_8_method_53_code (4 : Nat) (Option.some Jvm.ClassFile.FieldType.int)) ∈ lw_all := lw_g (lw_at lw_m6 110 rfl) rfl
theorem q1371 : (Jvm.Cond.instanceMethod ({ cls := "BurrowlineModel", name := "later", desc := "(I)I" } : Jvm.MethodName)) ∈ lw_all := lw_g (lw_at lw_m6 112 rfl) rfl
theorem q1372 : (Jvm.Cond.selects "BurrowlineModel" ({ cls := "BurrowlineModel", name := "later", desc := "(I)I" } : Jvm.MethodName) ({ cls := "BurrowlineModel", name := "later", desc := "(I)I" } : Jvm.MethodName)) ∈ lw_all := lw_g (lw_at lw_m6 113 rfl) rfl
theorem q1373 : (Jvm.Cond.code ({ cls := "BurrowlineModel", name := "later", desc := "(I)I" } : Jvm.MethodName) prog_8_method_54_code (3 : Nat) (Option.some Jvm.ClassFile.FieldType.int)) ∈ lw_all := lw_g (lw_at lw_m6 114 rfl) rfl
theorem q1375 : (Jvm.Cond.instanceMethod ({ cls := "BurrowlineModel", name := "now", desc := "()I" } : Jvm.MethodName)) ∈ lw_all := lw_g (lw_at lw_m6 116 rfl) rfl
theorem q1376 : (Jvm.Cond.selects "BurrowlineModel" ({ cls := "BurrowlineModel", name := "now", desc := "()I" } : Jvm.MethodName) ({ cls := "BurrowlineModel", name := "now", desc := "()I" } : Jvm.MethodName)) ∈ lw_all := lw_g (lw_at lw_m6 117 rfl) rfl
theorem q1377 : (Jvm.Cond.code ({ cls := "BurrowlineModel", name := "now", desc := "()I" } : Jvm.MethodName) prog_8_method_55_code (1 : Nat) (Option.some Jvm.ClassFile.FieldType.int)) ∈ lw_all := lw_g (lw_at lw_m6 118 rfl) rfl
theorem q1379 : (Jvm.Cond.instanceMethod ({ cls := "BurrowlineModel", name := "letters", desc := "()I" } : Jvm.MethodName)) ∈ lw_all := lw_g (lw_at lw_m6 120 rfl) rfl
theorem q1380 : (Jvm.Cond.selects "BurrowlineModel" ({ cls := "BurrowlineModel", name := "letters", desc := "()I" } : Jvm.MethodName) ({ cls := "BurrowlineModel", name := "letters", desc := "()I" } : Jvm.MethodName)) ∈ lw_all := lw_g (lw_at lw_m6 121 rfl) rfl
theorem q1381 : (Jvm.Cond.code ({ cls := "BurrowlineModel", name := "letters", desc := "()I" } : Jvm.MethodName) prog_8_method_56_code (1 : Nat) (Option.some Jvm.ClassFile.FieldType.int)) ∈ lw_all := lw_g (lw_at lw_m6 122 rfl) rfl
theorem q1383 : (Jvm.Cond.instanceMethod ({ cls := "BurrowlineModel", name := "letter", desc := "(II)I" } : Jvm.MethodName)) ∈ lw_all := lw_g (lw_at lw_m6 124 rfl) rfl
theorem q1384 : (Jvm.Cond.selects "BurrowlineModel" ({ cls := "BurrowlineModel", name := "letter", desc := "(II)I" } : Jvm.MethodName) ({ cls := "BurrowlineModel", name := "letter", desc := "(II)I" } : Jvm.MethodName)) ∈ lw_all := lw_g (lw_at lw_m6 125 rfl) rfl
theorem q1385 : (Jvm.Cond.code ({ cls := "BurrowlineModel", name := "letter", desc := "(II)I" } : Jvm.MethodName) prog_8_method_57_code (3 : Nat) (Option.some Jvm.ClassFile.FieldType.int)) ∈ lw_all := lw_g (lw_at lw_m6 126 rfl) rfl
theorem q1387 : (Jvm.Cond.instanceMethod ({ cls := "BurrowlineModel", name := "isTurned", desc := "(I)Z" } : Jvm.MethodName)) ∈ lw_all := lw_g (lw_at lw_m6 128 rfl) rfl
theorem q1388 : (Jvm.Cond.selects "BurrowlineModel" ({ cls := "BurrowlineModel", name := "isTurned", desc := "(I)Z" } : Jvm.MethodName) ({ cls := "BurrowlineModel", name := "isTurned", desc := "(I)Z" } : Jvm.MethodName)) ∈ lw_all := lw_g (lw_at lw_m6 129 rfl) rfl
theorem q1389 : (Jvm.Cond.code ({ cls := "BurrowlineModel", name := "isTurned", desc := "(I)Z" } : Jvm.MethodName) prog_8_method_58_code (2 : Nat) (Option.some Jvm.ClassFile.FieldType.boolean)) ∈ lw_all := lw_g (lw_at lw_m6 130 rfl) rfl
theorem q1390 : (Jvm.Cond.methodLink "BurrowlineModel" (271 : Nat) ({ cls := "BurrowlineModel", name := "wasTurned", desc := "([I)Z" } : Jvm.MethodName)) ∈ lw_all := lw_g (lw_at lw_m6 131 rfl) rfl
theorem q1391 : (Jvm.Cond.privateMethod ({ cls := "BurrowlineModel", name := "wasTurned", desc := "([I)Z" } : Jvm.MethodName)) ∈ lw_tbl := lw_at lw_m6 132 rfl
theorem q1392 : (Jvm.Cond.instanceMethod ({ cls := "BurrowlineModel", name := "wasTurned", desc := "([I)Z" } : Jvm.MethodName)) ∈ lw_all := lw_g (lw_at lw_m6 133 rfl) rfl
theorem q1393 : (Jvm.Cond.code ({ cls := "BurrowlineModel", name := "wasTurned", desc := "([I)Z" } : Jvm.MethodName) prog_8_method_19_code (2 : Nat) (Option.some Jvm.ClassFile.FieldType.boolean)) ∈ lw_all := lw_g (lw_at lw_m6 134 rfl) rfl
theorem q1395 : (Jvm.Cond.instanceMethod ({ cls := "BurrowlineModel", name := "address", desc := "(I)I" } : Jvm.MethodName)) ∈ lw_all := lw_g (lw_at lw_m6 136 rfl) rfl
theorem q1396 : (Jvm.Cond.selects "BurrowlineModel" ({ cls := "BurrowlineModel", name := "address", desc := "(I)I" } : Jvm.MethodName) ({ cls := "BurrowlineModel", name := "address", desc := "(I)I" } : Jvm.MethodName)) ∈ lw_all := lw_g (lw_at lw_m6 137 rfl) rfl
theorem q1397 : (Jvm.Cond.code ({ cls := "BurrowlineModel", name := "address", desc := "(I)I" } : Jvm.MethodName) prog_8_method_59_code (2 : Nat) (Option.some Jvm.ClassFile.FieldType.int)) ∈ lw_all := lw_g (lw_at lw_m6 138 rfl) rfl
theorem q1399 : (Jvm.Cond.instanceMethod ({ cls := "BurrowlineModel", name := "known", desc := "(II)I" } : Jvm.MethodName)) ∈ lw_all := lw_g (lw_at lw_m6 140 rfl) rfl
theorem q1400 : (Jvm.Cond.selects "BurrowlineModel" ({ cls := "BurrowlineModel", name := "known", desc := "(II)I" } : Jvm.MethodName) ({ cls := "BurrowlineModel", name := "known", desc := "(II)I" } : Jvm.MethodName)) ∈ lw_all := lw_g (lw_at lw_m6 141 rfl) rfl
theorem q1401 : (Jvm.Cond.code ({ cls := "BurrowlineModel", name := "known", desc := "(II)I" } : Jvm.MethodName) prog_8_method_60_code (3 : Nat) (Option.some Jvm.ClassFile.FieldType.int)) ∈ lw_all := lw_g (lw_at lw_m6 142 rfl) rfl
theorem q1403 : (Jvm.Cond.instanceMethod ({ cls := "BurrowlineModel", name := "route", desc := "(II)I" } : Jvm.MethodName)) ∈ lw_all := lw_g (lw_at lw_m6 144 rfl) rfl
theorem q1404 : (Jvm.Cond.selects "BurrowlineModel" ({ cls := "BurrowlineModel", name := "route", desc := "(II)I" } : Jvm.MethodName) ({ cls := "BurrowlineModel", name := "route", desc := "(II)I" } : Jvm.MethodName)) ∈ lw_all := lw_g (lw_at lw_m6 145 rfl) rfl
theorem q1405 : (Jvm.Cond.code ({ cls := "BurrowlineModel", name := "route", desc := "(II)I" } : Jvm.MethodName) prog_8_method_61_code (3 : Nat) (Option.some Jvm.ClassFile.FieldType.int)) ∈ lw_all := lw_g (lw_at lw_m6 146 rfl) rfl
theorem q1407 : (Jvm.Cond.instanceMethod ({ cls := "BurrowlineModel", name := "session", desc := "(IIII)I" } : Jvm.MethodName)) ∈ lw_all := lw_g (lw_at lw_m6 148 rfl) rfl
theorem q1408 : (Jvm.Cond.selects "BurrowlineModel" ({ cls := "BurrowlineModel", name := "session", desc := "(IIII)I" } : Jvm.MethodName) ({ cls := "BurrowlineModel", name := "session", desc := "(IIII)I" } : Jvm.MethodName)) ∈ lw_all := lw_g (lw_at lw_m6 149 rfl) rfl
theorem q1409 : (Jvm.Cond.code ({ cls := "BurrowlineModel", name := "session", desc := "(IIII)I" } : Jvm.MethodName) prog_8_method_62_code (7 : Nat) (Option.some Jvm.ClassFile.FieldType.int)) ∈ lw_all := lw_g (lw_at lw_m6 150 rfl) rfl
theorem q1411 : (Jvm.Cond.instanceMethod ({ cls := "BurrowlineModel", name := "isUsable", desc := "(II)Z" } : Jvm.MethodName)) ∈ lw_all := lw_g (lw_at lw_m6 152 rfl) rfl
theorem q1412 : (Jvm.Cond.selects "BurrowlineModel" ({ cls := "BurrowlineModel", name := "isUsable", desc := "(II)Z" } : Jvm.MethodName) ({ cls := "BurrowlineModel", name := "isUsable", desc := "(II)Z" } : Jvm.MethodName)) ∈ lw_all := lw_g (lw_at lw_m6 153 rfl) rfl
theorem q1413 : (Jvm.Cond.code ({ cls := "BurrowlineModel", name := "isUsable", desc := "(II)Z" } : Jvm.MethodName) prog_8_method_63_code (3 : Nat) (Option.some Jvm.ClassFile.FieldType.boolean)) ∈ lw_all := lw_g (lw_at lw_m6 154 rfl) rfl
theorem q1415 : (Jvm.Cond.instanceMethod ({ cls := "BurrowlineModel", name := "flight", desc := "(II)I" } : Jvm.MethodName)) ∈ lw_all := lw_g (lw_at lw_m6 156 rfl) rfl
theorem q1416 : (Jvm.Cond.selects "BurrowlineModel" ({ cls := "BurrowlineModel", name := "flight", desc := "(II)I" } : Jvm.MethodName) ({ cls := "BurrowlineModel", name := "flight", desc := "(II)I" } : Jvm.MethodName)) ∈ lw_all := lw_g (lw_at lw_m6 157 rfl) rfl
theorem q1417 : (Jvm.Cond.code ({ cls := "BurrowlineModel", name := "flight", desc := "(II)I" } : Jvm.MethodName) prog_8_method_64_code (3 : Nat) (Option.some Jvm.ClassFile.FieldType.int)) ∈ lw_all := lw_g (lw_at lw_m6 158 rfl) rfl
theorem q1419 : (Jvm.Cond.instanceMethod ({ cls := "BurrowlineModel", name := "waiting", desc := "(II)I" } : Jvm.MethodName)) ∈ lw_all := lw_g (lw_at lw_m6 160 rfl) rfl
theorem q1420 : (Jvm.Cond.selects "BurrowlineModel" ({ cls := "BurrowlineModel", name := "waiting", desc := "(II)I" } : Jvm.MethodName) ({ cls := "BurrowlineModel", name := "waiting", desc := "(II)I" } : Jvm.MethodName)) ∈ lw_all := lw_g (lw_at lw_m6 161 rfl) rfl
theorem q1421 : (Jvm.Cond.code ({ cls := "BurrowlineModel", name := "waiting", desc := "(II)I" } : Jvm.MethodName) prog_8_method_65_code (3 : Nat) (Option.some Jvm.ClassFile.FieldType.int)) ∈ lw_all := lw_g (lw_at lw_m6 162 rfl) rfl
theorem q1423 : (Jvm.Cond.instanceMethod ({ cls := "BurrowlineModel", name := "cookie", desc := "(II)I" } : Jvm.MethodName)) ∈ lw_all := lw_g (lw_at lw_m6 164 rfl) rfl
theorem q1424 : (Jvm.Cond.selects "BurrowlineModel" ({ cls := "BurrowlineModel", name := "cookie", desc := "(II)I" } : Jvm.MethodName) ({ cls := "BurrowlineModel", name := "cookie", desc := "(II)I" } : Jvm.MethodName)) ∈ lw_all := lw_g (lw_at lw_m6 165 rfl) rfl
theorem q1425 : (Jvm.Cond.code ({ cls := "BurrowlineModel", name := "cookie", desc := "(II)I" } : Jvm.MethodName) prog_8_method_66_code (3 : Nat) (Option.some Jvm.ClassFile.FieldType.int)) ∈ lw_all := lw_g (lw_at lw_m6 166 rfl) rfl
theorem q1427 : (Jvm.Cond.instanceMethod ({ cls := "BurrowlineModel", name := "stamp", desc := "(IIZ)I" } : Jvm.MethodName)) ∈ lw_all := lw_g (lw_at lw_m6 168 rfl) rfl
theorem q1428 : (Jvm.Cond.selects "BurrowlineModel" ({ cls := "BurrowlineModel", name := "stamp", desc := "(IIZ)I" } : Jvm.MethodName) ({ cls := "BurrowlineModel", name := "stamp", desc := "(IIZ)I" } : Jvm.MethodName)) ∈ lw_all := lw_g (lw_at lw_m6 169 rfl) rfl
theorem q1429 : (Jvm.Cond.code ({ cls := "BurrowlineModel", name := "stamp", desc := "(IIZ)I" } : Jvm.MethodName) prog_8_method_67_code (4 : Nat) (Option.some Jvm.ClassFile.FieldType.int)) ∈ lw_all := lw_g (lw_at lw_m6 170 rfl) rfl
theorem q1431 : (Jvm.Cond.instanceMethod ({ cls := "BurrowlineModel", name := "outs", desc := "(I)I" } : Jvm.MethodName)) ∈ lw_all := lw_g (lw_at lw_m6 172 rfl) rfl
theorem q1432 : (Jvm.Cond.selects "BurrowlineModel" ({ cls := "BurrowlineModel", name := "outs", desc := "(I)I" } : Jvm.MethodName) ({ cls := "BurrowlineModel", name := "outs", desc := "(I)I" } : Jvm.MethodName)) ∈ lw_all := lw_g (lw_at lw_m6 173 rfl) rfl
theorem q1433 : (Jvm.Cond.code ({ cls := "BurrowlineModel", name := "outs", desc := "(I)I" } : Jvm.MethodName) prog_8_method_68_code (2 : Nat) (Option.some Jvm.ClassFile.FieldType.int)) ∈ lw_all := lw_g (lw_at lw_m6 174 rfl) rfl
theorem q1435 : (Jvm.Cond.instanceMethod ({ cls := "BurrowlineModel", name := "out", desc := "(III)I" } : Jvm.MethodName)) ∈ lw_all := lw_g (lw_at lw_m6 176 rfl) rfl
theorem q1436 : (Jvm.Cond.selects "BurrowlineModel" ({ cls := "BurrowlineModel", name := "out", desc := "(III)I" } : Jvm.MethodName) ({ cls := "BurrowlineModel", name := "out", desc := "(III)I" } : Jvm.MethodName)) ∈ lw_all := lw_g (lw_at lw_m6 177 rfl) rfl
theorem q1437 : (Jvm.Cond.code ({ cls := "BurrowlineModel", name := "out", desc := "(III)I" } : Jvm.MethodName) prog_8_method_69_code (9 : Nat) (Option.some Jvm.ClassFile.FieldType.int)) ∈ lw_all := lw_g (lw_at lw_m6 178 rfl) rfl
theorem q1438 : (Jvm.Cond.constantLong "BurrowlineModel" (275 : Nat) (3 : Int64)) ∈ lw_all := lw_g (lw_at lw_m6 179 rfl) rfl
theorem q1440 : (Jvm.Cond.instanceMethod ({ cls := "BurrowlineModel", name := "drops", desc := "(I)I" } : Jvm.MethodName)) ∈ lw_all := lw_g (lw_at lw_m6 181 rfl) rfl
theorem q1441 : (Jvm.Cond.selects "BurrowlineModel" ({ cls := "BurrowlineModel", name := "drops", desc := "(I)I" } : Jvm.MethodName) ({ cls := "BurrowlineModel", name := "drops", desc := "(I)I" } : Jvm.MethodName)) ∈ lw_all := lw_g (lw_at lw_m6 182 rfl) rfl
theorem q1442 : (Jvm.Cond.code ({ cls := "BurrowlineModel", name := "drops", desc := "(I)I" } : Jvm.MethodName) prog_8_method_70_code (2 : Nat) (Option.some Jvm.ClassFile.FieldType.int)) ∈ lw_all := lw_g (lw_at lw_m6 183 rfl) rfl
theorem q1443 : (Jvm.Cond.constantLong "BurrowlineModel" (277 : Nat) (-7 : Int64)) ∈ lw_all := lw_g (lw_at lw_m6 184 rfl) rfl
theorem q1445 : (Jvm.Cond.instanceMethod ({ cls := "BurrowlineModel", name := "publicOf", desc := "(I)I" } : Jvm.MethodName)) ∈ lw_all := lw_g (lw_at lw_m6 186 rfl) rfl
theorem q1446 : (Jvm.Cond.selects "BurrowlineModel" ({ cls := "BurrowlineModel", name := "publicOf", desc := "(I)I" } : Jvm.MethodName) ({ cls := "BurrowlineModel", name := "publicOf", desc := "(I)I" } : Jvm.MethodName)) ∈ lw_all := lw_g (lw_at lw_m6 187 rfl) rfl
theorem q1447 : (Jvm.Cond.code ({ cls := "BurrowlineModel", name := "publicOf", desc := "(I)I" } : Jvm.MethodName) prog_8_method_71_code (2 : Nat) (Option.some Jvm.ClassFile.FieldType.int)) ∈ lw_all := lw_g (lw_at lw_m6 188 rfl) rfl
theorem q1448 : (Jvm.Cond.constantLong "BurrowlineModel" (279 : Nat) (1000000 : Int64)) ∈ lw_all := lw_g (lw_at lw_m6 189 rfl) rfl
theorem q1450 : (Jvm.Cond.instanceMethod ({ cls := "BurrowlineModel", name := "shared", desc := "(II)I" } : Jvm.MethodName)) ∈ lw_all := lw_g (lw_at lw_m6 191 rfl) rfl
theorem q1451 : (Jvm.Cond.selects "BurrowlineModel" ({ cls := "BurrowlineModel", name := "shared", desc := "(II)I" } : Jvm.MethodName) ({ cls := "BurrowlineModel", name := "shared", desc := "(II)I" } : Jvm.MethodName)) ∈ lw_all := lw_g (lw_at lw_m6 192 rfl) rfl
theorem q1452 : (Jvm.Cond.code ({ cls := "BurrowlineModel", name := "shared", desc := "(II)I" } : Jvm.MethodName) prog_8_method_72_code (3 : Nat) (Option.some Jvm.ClassFile.FieldType.int)) ∈ lw_all := lw_g (lw_at lw_m6 193 rfl) rfl
theorem q1453 : (Jvm.Cond.constantLong "BurrowlineModel" (281 : Nat) (2038 : Int64)) ∈ lw_all := lw_g (lw_at lw_m6 194 rfl) rfl
theorem q1455 : (Jvm.Cond.instanceMethod ({ cls := "BurrowlineModel", name := "seal", desc := "(IIII)I" } : Jvm.MethodName)) ∈ lw_all := lw_g (lw_at lw_m6 196 rfl) rfl
theorem q1456 : (Jvm.Cond.selects "BurrowlineModel" ({ cls := "BurrowlineModel", name := "seal", desc := "(IIII)I" } : Jvm.MethodName) ({ cls := "BurrowlineModel", name := "seal", desc := "(IIII)I" } : Jvm.MethodName)) ∈ lw_all := lw_g (lw_at lw_m6 197 rfl) rfl
theorem q1457 : (Jvm.Cond.code ({ cls := "BurrowlineModel", name := "seal", desc := "(IIII)I" } : Jvm.MethodName) prog_8_method_73_code (6 : Nat) (Option.some Jvm.ClassFile.FieldType.int)) ∈ lw_all := lw_g (lw_at lw_m6 198 rfl) rfl
theorem q1458 : (Jvm.Cond.constantLong "BurrowlineModel" (283 : Nat) (65520 : Int64)) ∈ lw_all := lw_g (lw_at lw_m6 199 rfl) rfl
theorem q1459 : (Jvm.Cond.constantLong "BurrowlineModel" (285 : Nat) (-1 : Int64)) ∈ lw_all := lw_g (lw_at lw_m6 200 rfl) rfl
theorem q1461 : (Jvm.Cond.instanceMethod ({ cls := "BurrowlineModel", name := "share", desc := "()F" } : Jvm.MethodName)) ∈ lw_all := lw_g (lw_at lw_m6 202 rfl) rfl
theorem q1462 : (Jvm.Cond.selects "BurrowlineModel" ({ cls := "BurrowlineModel", name := "share", desc := "()F" } : Jvm.MethodName) ({ cls := "BurrowlineModel", name := "share", desc := "()F" } : Jvm.MethodName)) ∈ lw_all := lw_g (lw_at lw_m6 203 rfl) rfl
theorem q1463 : (Jvm.Cond.code ({ cls := "BurrowlineModel", name := "share", desc := "()F" } : Jvm.MethodName) prog_8_method_74_code (1 : Nat) (Option.some Jvm.ClassFile.FieldType.float)) ∈ lw_all := lw_g (lw_at lw_m6 204 rfl) rfl
theorem q1465 : (Jvm.Cond.instanceMethod ({ cls := "BurrowlineModel", name := "meanAge", desc := "()D" } : Jvm.MethodName)) ∈ lw_all := lw_g (lw_at lw_m6 206 rfl) rfl
theorem q1466 : (Jvm.Cond.selects "BurrowlineModel" ({ cls := "BurrowlineModel", name := "meanAge", desc := "()D" } : Jvm.MethodName) ({ cls := "BurrowlineModel", name := "meanAge", desc := "()D" } : Jvm.MethodName)) ∈ lw_all := lw_g (lw_at lw_m6 207 rfl) rfl
theorem q1467 : (Jvm.Cond.code ({ cls := "BurrowlineModel", name := "meanAge", desc := "()D" } : Jvm.MethodName) prog_8_method_75_code (7 : Nat) (Option.some Jvm.ClassFile.FieldType.double)) ∈ lw_all := lw_g (lw_at lw_m6 208 rfl) rfl
theorem q1469 : (Jvm.Cond.instanceMethod ({ cls := "BurrowlineModel", name := "isSound", desc := "()Z" } : Jvm.MethodName)) ∈ lw_all := lw_g (lw_at lw_m6 210 rfl) rfl
theorem q1470 : (Jvm.Cond.selects "BurrowlineModel" ({ cls := "BurrowlineModel", name := "isSound", desc := "()Z" } : Jvm.MethodName) ({ cls := "BurrowlineModel", name := "isSound", desc := "()Z" } : Jvm.MethodName)) ∈ lw_all := lw_g (lw_at lw_m6 211 rfl) rfl
theorem q1471 : (Jvm.Cond.code ({ cls := "BurrowlineModel", name := "isSound", desc := "()Z" } : Jvm.MethodName) prog_8_method_76_code (1 : Nat) (Option.some Jvm.ClassFile.FieldType.boolean)) ∈ lw_all := lw_g (lw_at lw_m6 212 rfl) rfl
theorem q1473 : (Jvm.Cond.instanceMethod ({ cls := "BurrowlineModel", name := "checksum", desc := "()J" } : Jvm.MethodName)) ∈ lw_all := lw_g (lw_at lw_m6 214 rfl) rfl
theorem q1474 : (Jvm.Cond.selects "BurrowlineModel" ({ cls := "BurrowlineModel", name := "checksum", desc := "()J" } : Jvm.MethodName) ({ cls := "BurrowlineModel", name := "checksum", desc := "()J" } : Jvm.MethodName)) ∈ lw_all := lw_g (lw_at lw_m6 215 rfl) rfl
theorem q1475 : (Jvm.Cond.code ({ cls := "BurrowlineModel", name := "checksum", desc := "()J" } : Jvm.MethodName) prog_8_method_78_code (6 : Nat) (Option.some Jvm.ClassFile.FieldType.long)) ∈ lw_all := lw_g (lw_at lw_m6 216 rfl) rfl
theorem q1476 : (Jvm.Cond.methodLink "BurrowlineModel" (291 : Nat) ({ cls := "BurrowlineModel", name := "add", desc := "(J)V" } : Jvm.MethodName)) ∈ lw_all := lw_g (lw_at lw_m6 217 rfl) rfl
theorem q1477 : (Jvm.Cond.privateMethod ({ cls := "BurrowlineModel", name := "add", desc := "(J)V" } : Jvm.MethodName)) ∈ lw_tbl := lw_at lw_m6 218 rfl
theorem q1478 : (Jvm.Cond.instanceMethod ({ cls := "BurrowlineModel", name := "add", desc := "(J)V" } : Jvm.MethodName)) ∈ lw_all := lw_g (lw_at lw_m6 219 rfl) rfl
theorem q1479 : (Jvm.Cond.code ({ cls := "BurrowlineModel", name := "add", desc := "(J)V" } : Jvm.MethodName) prog_8_method_77_code (3 : Nat) (Option.none : Option Jvm.ClassFile.FieldType)) ∈ lw_all := lw_g (lw_at lw_m6 220 rfl) rfl
theorem q1488 : (Jvm.Cond.castable "BurrowlineModel" "java/lang/Object") ∈ lw_tbl := lw_at lw_m6 229 rfl
theorem in_X4 : ∀ w ∈ wsX40, w ∈ lw_all := lw_in wsX40 [1098, 1100, 1102, 1104, 1106, 1108, 1110, 1112, 1114, 1116, 1118, 1120, 1122, 1124, 1126, 1128, 1130, 1132, 1134, 1136, 1138, 1140, 1142, 1144, 1146, 1148, 1150] (by decide +kernel) (by decide +kernel)

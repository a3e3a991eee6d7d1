/-! CreditShelfModel -/
set_option maxRecDepth 100000
def RX2 : String := "CreditShelfModel"
def TX2 : u_T := fun k => match k with
  | 0 => ("CreditShelfModel", "page", "[I", true)
  | 1 => ("CreditShelfModel", "pageMany", "I", false)
  | 2 => ("CreditShelfModel", "left", "[I", true)
  | 3 => ("CreditShelfModel", "right", "[I", true)
  | 4 => ("CreditShelfModel", "above", "[I", true)
  | 5 => ("CreditShelfModel", "there", "[I", true)
  | 6 => ("CreditShelfModel", "root", "[I", true)
  | 7 => ("CreditShelfModel", "many", "[I", true)
  | 8 => ("CreditShelfModel", "most", "[I", true)
  | 9 => ("CreditShelfModel", "builtNow", "I", false)
  | 10 => ("CreditShelfModel", "built", "[I", true)
  | 11 => ("CreditShelfModel", "cost", "[I", true)
  | 12 => ("CreditShelfModel", "kinds", "[I", true)
  | 13 => ("CreditShelfModel", "values", "[I", true)
  | 14 => ("CreditShelfModel", "ratioA", "I", false)
  | 15 => ("CreditShelfModel", "ratioB", "I", false)
  | 16 => ("CreditShelfModel", "thenA", "I", false)
  | 17 => ("CreditShelfModel", "thenB", "I", false)
  | 18 => ("CreditShelfModel", "fee", "I", false)
  | 19 => ("CreditShelfModel", "credit", "I", false)
  | 20 => ("CreditShelfModel", "lowest", "I", false)
  | 21 => ("CreditShelfModel", "log", "[I", true)
  | 22 => ("CreditShelfModel", "logMany", "I", false)
  | 23 => ("CreditShelfModel", "shelvesRead", "I", false)
  | 24 => ("CreditShelfModel", "row", "[I", true)
  | 25 => ("CreditShelfModel", "spanLow", "[I", true)
  | 26 => ("CreditShelfModel", "spanHigh", "[I", true)
  | 27 => ("CreditShelfModel", "spanOn", "[I", true)
  | 28 => ("CreditShelfModel", "seenMany", "I", false)
  | 29 => ("CreditShelfModel", "sights", "[I", true)
  | 30 => ("CreditShelfModel", "seedNow", "I", false)
  | 31 => ("CreditShelfModel", "keptShelf", "I", false)
  | 32 => ("CreditShelfModel", "keptRoot", "I", false)
  | 33 => ("CreditShelfModel", "keptMany", "I", false)
  | 34 => ("CreditShelfModel", "keptMost", "I", false)
  | 35 => ("CreditShelfModel", "keptBuilt", "I", false)
  | 36 => ("CreditShelfModel", "keptCost", "I", false)
  | 37 => ("CreditShelfModel", "keptCredit", "I", false)
  | 38 => ("CreditShelfModel", "keptLowest", "I", false)
  | 39 => ("CreditShelfModel", "keptLogMany", "I", false)
  | 40 => ("CreditShelfModel", "keptSeen", "I", false)
  | 41 => ("CreditShelfModel", "keptLeft", "[I", true)
  | 42 => ("CreditShelfModel", "keptRight", "[I", true)
  | 43 => ("CreditShelfModel", "keptAbove", "[I", true)
  | 44 => ("CreditShelfModel", "keptThere", "[I", true)
  | 45 => ("CreditShelfModel", "keptKinds", "[I", true)
  | 46 => ("CreditShelfModel", "keptValues", "[I", true)
  | 47 => ("CreditShelfModel", "keptLog", "[I", true)
  | 48 => ("CreditShelfModel", "keptSights", "[I", true)
  | _ => ("CreditShelfModel", "hash", "J", false)
def tyX2 : Nat → FieldType := fun k => match k with
  | 0 => .array .int
  | 1 => .int
  | 2 => .array .int
  | 3 => .array .int
  | 4 => .array .int
  | 5 => .array .int
  | 6 => .array .int
  | 7 => .array .int
  | 8 => .array .int
  | 9 => .int
  | 10 => .array .int
  | 11 => .array .int
  | 12 => .array .int
  | 13 => .array .int
  | 14 => .int
  | 15 => .int
  | 16 => .int
  | 17 => .int
  | 18 => .int
  | 19 => .int
  | 20 => .int
  | 21 => .array .int
  | 22 => .int
  | 23 => .int
  | 24 => .array .int
  | 25 => .array .int
  | 26 => .array .int
  | 27 => .array .int
  | 28 => .int
  | 29 => .array .int
  | 30 => .int
  | 31 => .int
  | 32 => .int
  | 33 => .int
  | 34 => .int
  | 35 => .int
  | 36 => .int
  | 37 => .int
  | 38 => .int
  | 39 => .int
  | 40 => .int
  | 41 => .array .int
  | 42 => .array .int
  | 43 => .array .int
  | 44 => .array .int
  | 45 => .array .int
  | 46 => .array .int
  | 47 => .array .int
  | 48 => .array .int
  | _ => .long
abbrev wsX20 : List Cond := u_ws RX2 TX2 50
set_option maxRecDepth 100000 in
theorem nmX2 : ∀ a, a < 50 → ∀ b, b < 50 → a ≠ b → (TX2 a).2.1 ≠ (TX2 b).2.1 := by decide +kernel
set_option maxRecDepth 100000 in
theorem tyX2_ok : ∀ k, k < 50 → parseFieldDescriptor (TX2 k).2.2.1 = some (tyX2 k) := by decide +kernel
abbrev cX2_init : ByteArray := prog_11_method_1_code
def yX2_init : MethodName := ⟨RX2, "<init>", "()V"⟩
def dkwX2_init_9 : List UInt8 := [188, 10, 181, 0, 85, 42, 2, 181, 0, 88, 42, 180, 0, 25, 3, 2, 79, 177]
abbrev dktX2_init_9 : List UInt8 := dkwX2_init_9 ++ []
def dkwX2_init_8 : List UInt8 := [188, 10, 181, 0, 76, 42, 16, 100, 188, 10, 181, 0, 79, 42, 16, 60, 188, 10, 181, 0, 82, 42, 16, 18]
abbrev dktX2_init_8 : List UInt8 := dkwX2_init_8 ++ dktX2_init_9
def dkwX2_init_7 : List UInt8 := [181, 0, 67, 42, 17, 0, 200, 188, 10, 181, 0, 70, 42, 17, 0, 200, 188, 10, 181, 0, 73, 42, 16, 100]
abbrev dktX2_init_7 : List UInt8 := dkwX2_init_7 ++ dktX2_init_8
def dkwX2_init_6 : List UInt8 := [16, 18, 188, 10, 181, 0, 61, 42, 17, 0, 200, 188, 10, 181, 0, 64, 42, 17, 0, 200, 188, 10]
abbrev dktX2_init_6 : List UInt8 := dkwX2_init_6 ++ dktX2_init_7
def dkwX2_init_5 : List UInt8 := [16, 41, 188, 10, 181, 0, 52, 42, 16, 41, 188, 10, 181, 0, 55, 42, 16, 41, 188, 10, 181, 0, 58, 42]
abbrev dktX2_init_5 : List UInt8 := dkwX2_init_5 ++ dktX2_init_6
def dkwX2_init_4 : List UInt8 := [16, 100, 188, 10, 181, 0, 43, 42, 16, 60, 188, 10, 181, 0, 46, 42, 16, 40, 188, 10, 181, 0, 49, 42]
abbrev dktX2_init_4 : List UInt8 := dkwX2_init_4 ++ dktX2_init_5
def dkwX2_init_3 : List UInt8 := [42, 5, 188, 10, 181, 0, 34, 42, 5, 188, 10, 181, 0, 37, 42, 16, 100, 188, 10, 181, 0, 40, 42]
abbrev dktX2_init_3 : List UInt8 := dkwX2_init_3 ++ dktX2_init_4
def dkwX2_init_2 : List UInt8 := [181, 0, 22, 42, 5, 188, 10, 181, 0, 25, 42, 5, 188, 10, 181, 0, 28, 42, 5, 188, 10, 181, 0, 31]
abbrev dktX2_init_2 : List UInt8 := dkwX2_init_2 ++ dktX2_init_3
def dkwX2_init_1 : List UInt8 := [17, 0, 200, 188, 10, 181, 0, 16, 42, 17, 0, 200, 188, 10, 181, 0, 19, 42, 17, 0, 200, 188, 10]
abbrev dktX2_init_1 : List UInt8 := dkwX2_init_1 ++ dktX2_init_2
def dkwX2_init_0 : List UInt8 := [42, 183, 0, 1, 42, 16, 54, 188, 10, 181, 0, 7, 42, 17, 0, 200, 188, 10, 181, 0, 13, 42]
abbrev dktX2_init_0 : List UInt8 := dkwX2_init_0 ++ dktX2_init_1
theorem dksX2_init_0 : cX2_init.data.toList.drop 0 = dktX2_init_0 := by decide +kernel
theorem dksX2_init_1 : cX2_init.data.toList.drop 22 = dktX2_init_1 := dk_seg dksX2_init_0 22 rfl rfl
theorem dksX2_init_2 : cX2_init.data.toList.drop 45 = dktX2_init_2 := dk_seg dksX2_init_1 23 rfl rfl
theorem dksX2_init_3 : cX2_init.data.toList.drop 69 = dktX2_init_3 := dk_seg dksX2_init_2 24 rfl rfl
theorem dksX2_init_4 : cX2_init.data.toList.drop 92 = dktX2_init_4 := dk_seg dksX2_init_3 23 rfl rfl
theorem dksX2_init_5 : cX2_init.data.toList.drop 116 = dktX2_init_5 := dk_seg dksX2_init_4 24 rfl rfl
theorem dksX2_init_6 : cX2_init.data.toList.drop 140 = dktX2_init_6 := dk_seg dksX2_init_5 24 rfl rfl
theorem dksX2_init_7 : cX2_init.data.toList.drop 162 = dktX2_init_7 := dk_seg dksX2_init_6 22 rfl rfl
theorem dksX2_init_8 : cX2_init.data.toList.drop 186 = dktX2_init_8 := dk_seg dksX2_init_7 24 rfl rfl
theorem dksX2_init_9 : cX2_init.data.toList.drop 210 = dktX2_init_9 := dk_seg dksX2_init_8 24 rfl rfl
theorem dX2_init_0 : decode cX2_init 0 = .ok (.aload_n 0, 1) := dk_42 (dk_at dksX2_init_0 0 rfl rfl)
theorem dX2_init_1 : decode cX2_init 1 = .ok (.invokespecial 1, 3) := dk_183 0 1 (dk_at dksX2_init_0 1 rfl rfl)
theorem dX2_init_4 : decode cX2_init 4 = .ok (.aload_n 0, 1) := dk_42 (dk_at dksX2_init_0 4 rfl rfl)
theorem dX2_init_5 : decode cX2_init 5 = .ok (.bipush 54, 2) := dk_16 54 (dk_at dksX2_init_0 5 rfl rfl)
theorem dX2_init_7 : decode cX2_init 7 = .ok (.newarray .int, 2) := dk_188_10 (dk_at dksX2_init_0 7 rfl rfl)
theorem dX2_init_9 : decode cX2_init 9 = .ok (.putfield 7, 3) := dk_181 0 7 (dk_at dksX2_init_0 9 rfl rfl)
theorem dX2_init_12 : decode cX2_init 12 = .ok (.aload_n 0, 1) := dk_42 (dk_at dksX2_init_0 12 rfl rfl)
theorem dX2_init_13 : decode cX2_init 13 = .ok (.sipush 200, 3) := dk_17 0 200 (dk_at dksX2_init_0 13 rfl rfl)
theorem dX2_init_16 : decode cX2_init 16 = .ok (.newarray .int, 2) := dk_188_10 (dk_at dksX2_init_0 16 rfl rfl)
theorem dX2_init_18 : decode cX2_init 18 = .ok (.putfield 13, 3) := dk_181 0 13 (dk_at dksX2_init_0 18 rfl rfl)
theorem dX2_init_21 : decode cX2_init 21 = .ok (.aload_n 0, 1) := dk_42 (dk_at dksX2_init_0 21 rfl rfl)
theorem dX2_init_22 : decode cX2_init 22 = .ok (.sipush 200, 3) := dk_17 0 200 (dk_at dksX2_init_1 0 rfl rfl)
theorem dX2_init_25 : decode cX2_init 25 = .ok (.newarray .int, 2) := dk_188_10 (dk_at dksX2_init_1 3 rfl rfl)
theorem dX2_init_27 : decode cX2_init 27 = .ok (.putfield 16, 3) := dk_181 0 16 (dk_at dksX2_init_1 5 rfl rfl)
theorem dX2_init_30 : decode cX2_init 30 = .ok (.aload_n 0, 1) := dk_42 (dk_at dksX2_init_1 8 rfl rfl)
theorem dX2_init_31 : decode cX2_init 31 = .ok (.sipush 200, 3) := dk_17 0 200 (dk_at dksX2_init_1 9 rfl rfl)
theorem dX2_init_34 : decode cX2_init 34 = .ok (.newarray .int, 2) := dk_188_10 (dk_at dksX2_init_1 12 rfl rfl)
theorem dX2_init_36 : decode cX2_init 36 = .ok (.putfield 19, 3) := dk_181 0 19 (dk_at dksX2_init_1 14 rfl rfl)
theorem dX2_init_39 : decode cX2_init 39 = .ok (.aload_n 0, 1) := dk_42 (dk_at dksX2_init_1 17 rfl rfl)
theorem dX2_init_40 : decode cX2_init 40 = .ok (.sipush 200, 3) := dk_17 0 200 (dk_at dksX2_init_1 18 rfl rfl)
theorem dX2_init_43 : decode cX2_init 43 = .ok (.newarray .int, 2) := dk_188_10 (dk_at dksX2_init_1 21 rfl rfl)
theorem dX2_init_45 : decode cX2_init 45 = .ok (.putfield 22, 3) := dk_181 0 22 (dk_at dksX2_init_2 0 rfl rfl)
theorem dX2_init_48 : decode cX2_init 48 = .ok (.aload_n 0, 1) := dk_42 (dk_at dksX2_init_2 3 rfl rfl)
theorem dX2_init_49 : decode cX2_init 49 = .ok (.iconst 2, 1) := dk_5 (dk_at dksX2_init_2 4 rfl rfl)
theorem dX2_init_50 : decode cX2_init 50 = .ok (.newarray .int, 2) := dk_188_10 (dk_at dksX2_init_2 5 rfl rfl)
theorem dX2_init_52 : decode cX2_init 52 = .ok (.putfield 25, 3) := dk_181 0 25 (dk_at dksX2_init_2 7 rfl rfl)
theorem dX2_init_55 : decode cX2_init 55 = .ok (.aload_n 0, 1) := dk_42 (dk_at dksX2_init_2 10 rfl rfl)
theorem dX2_init_56 : decode cX2_init 56 = .ok (.iconst 2, 1) := dk_5 (dk_at dksX2_init_2 11 rfl rfl)
theorem dX2_init_57 : decode cX2_init 57 = .ok (.newarray .int, 2) := dk_188_10 (dk_at dksX2_init_2 12 rfl rfl)
theorem dX2_init_59 : decode cX2_init 59 = .ok (.putfield 28, 3) := dk_181 0 28 (dk_at dksX2_init_2 14 rfl rfl)
theorem dX2_init_62 : decode cX2_init 62 = .ok (.aload_n 0, 1) := dk_42 (dk_at dksX2_init_2 17 rfl rfl)
theorem dX2_init_63 : decode cX2_init 63 = .ok (.iconst 2, 1) := dk_5 (dk_at dksX2_init_2 18 rfl rfl)
theorem dX2_init_64 : decode cX2_init 64 = .ok (.newarray .int, 2) := dk_188_10 (dk_at dksX2_init_2 19 rfl rfl)
theorem dX2_init_66 : decode cX2_init 66 = .ok (.putfield 31, 3) := dk_181 0 31 (dk_at dksX2_init_2 21 rfl rfl)
theorem dX2_init_69 : decode cX2_init 69 = .ok (.aload_n 0, 1) := dk_42 (dk_at dksX2_init_3 0 rfl rfl)
theorem dX2_init_70 : decode cX2_init 70 = .ok (.iconst 2, 1) := dk_5 (dk_at dksX2_init_3 1 rfl rfl)
theorem dX2_init_71 : decode cX2_init 71 = .ok (.newarray .int, 2) := dk_188_10 (dk_at dksX2_init_3 2 rfl rfl)
theorem dX2_init_73 : decode cX2_init 73 = .ok (.putfield 34, 3) := dk_181 0 34 (dk_at dksX2_init_3 4 rfl rfl)
theorem dX2_init_76 : decode cX2_init 76 = .ok (.aload_n 0, 1) := dk_42 (dk_at dksX2_init_3 7 rfl rfl)
theorem dX2_init_77 : decode cX2_init 77 = .ok (.iconst 2, 1) := dk_5 (dk_at dksX2_init_3 8 rfl rfl)
theorem dX2_init_78 : decode cX2_init 78 = .ok (.newarray .int, 2) := dk_188_10 (dk_at dksX2_init_3 9 rfl rfl)
theorem dX2_init_80 : decode cX2_init 80 = .ok (.putfield 37, 3) := dk_181 0 37 (dk_at dksX2_init_3 11 rfl rfl)
theorem dX2_init_83 : decode cX2_init 83 = .ok (.aload_n 0, 1) := dk_42 (dk_at dksX2_init_3 14 rfl rfl)
theorem dX2_init_84 : decode cX2_init 84 = .ok (.bipush 100, 2) := dk_16 100 (dk_at dksX2_init_3 15 rfl rfl)
theorem dX2_init_86 : decode cX2_init 86 = .ok (.newarray .int, 2) := dk_188_10 (dk_at dksX2_init_3 17 rfl rfl)
theorem dX2_init_88 : decode cX2_init 88 = .ok (.putfield 40, 3) := dk_181 0 40 (dk_at dksX2_init_3 19 rfl rfl)
theorem dX2_init_91 : decode cX2_init 91 = .ok (.aload_n 0, 1) := dk_42 (dk_at dksX2_init_3 22 rfl rfl)
theorem dX2_init_92 : decode cX2_init 92 = .ok (.bipush 100, 2) := dk_16 100 (dk_at dksX2_init_4 0 rfl rfl)
theorem dX2_init_94 : decode cX2_init 94 = .ok (.newarray .int, 2) := dk_188_10 (dk_at dksX2_init_4 2 rfl rfl)
theorem dX2_init_96 : decode cX2_init 96 = .ok (.putfield 43, 3) := dk_181 0 43 (dk_at dksX2_init_4 4 rfl rfl)
theorem dX2_init_99 : decode cX2_init 99 = .ok (.aload_n 0, 1) := dk_42 (dk_at dksX2_init_4 7 rfl rfl)
theorem dX2_init_100 : decode cX2_init 100 = .ok (.bipush 60, 2) := dk_16 60 (dk_at dksX2_init_4 8 rfl rfl)
theorem dX2_init_102 : decode cX2_init 102 = .ok (.newarray .int, 2) := dk_188_10 (dk_at dksX2_init_4 10 rfl rfl)
theorem dX2_init_104 : decode cX2_init 104 = .ok (.putfield 46, 3) := dk_181 0 46 (dk_at dksX2_init_4 12 rfl rfl)
theorem dX2_init_107 : decode cX2_init 107 = .ok (.aload_n 0, 1) := dk_42 (dk_at dksX2_init_4 15 rfl rfl)
theorem dX2_init_108 : decode cX2_init 108 = .ok (.bipush 40, 2) := dk_16 40 (dk_at dksX2_init_4 16 rfl rfl)
theorem dX2_init_110 : decode cX2_init 110 = .ok (.newarray .int, 2) := dk_188_10 (dk_at dksX2_init_4 18 rfl rfl)
theorem dX2_init_112 : decode cX2_init 112 = .ok (.putfield 49, 3) := dk_181 0 49 (dk_at dksX2_init_4 20 rfl rfl)
theorem dX2_init_115 : decode cX2_init 115 = .ok (.aload_n 0, 1) := dk_42 (dk_at dksX2_init_4 23 rfl rfl)
theorem dX2_init_116 : decode cX2_init 116 = .ok (.bipush 41, 2) := dk_16 41 (dk_at dksX2_init_5 0 rfl rfl)
theorem dX2_init_118 : decode cX2_init 118 = .ok (.newarray .int, 2) := dk_188_10 (dk_at dksX2_init_5 2 rfl rfl)
theorem dX2_init_120 : decode cX2_init 120 = .ok (.putfield 52, 3) := dk_181 0 52 (dk_at dksX2_init_5 4 rfl rfl)
theorem dX2_init_123 : decode cX2_init 123 = .ok (.aload_n 0, 1) := dk_42 (dk_at dksX2_init_5 7 rfl rfl)
theorem dX2_init_124 : decode cX2_init 124 = .ok (.bipush 41, 2) := dk_16 41 (dk_at dksX2_init_5 8 rfl rfl)
theorem dX2_init_126 : decode cX2_init 126 = .ok (.newarray .int, 2) := dk_188_10 (dk_at dksX2_init_5 10 rfl rfl)
theorem dX2_init_128 : decode cX2_init 128 = .ok (.putfield 55, 3) := dk_181 0 55 (dk_at dksX2_init_5 12 rfl rfl)
theorem dX2_init_131 : decode cX2_init 131 = .ok (.aload_n 0, 1) := dk_42 (dk_at dksX2_init_5 15 rfl rfl)
theorem dX2_init_132 : decode cX2_init 132 = .ok (.bipush 41, 2) := dk_16 41 (dk_at dksX2_init_5 16 rfl rfl)
theorem dX2_init_134 : decode cX2_init 134 = .ok (.newarray .int, 2) := dk_188_10 (dk_at dksX2_init_5 18 rfl rfl)
theorem dX2_init_136 : decode cX2_init 136 = .ok (.putfield 58, 3) := dk_181 0 58 (dk_at dksX2_init_5 20 rfl rfl)
theorem dX2_init_139 : decode cX2_init 139 = .ok (.aload_n 0, 1) := dk_42 (dk_at dksX2_init_5 23 rfl rfl)
theorem dX2_init_140 : decode cX2_init 140 = .ok (.bipush 18, 2) := dk_16 18 (dk_at dksX2_init_6 0 rfl rfl)
theorem dX2_init_142 : decode cX2_init 142 = .ok (.newarray .int, 2) := dk_188_10 (dk_at dksX2_init_6 2 rfl rfl)
theorem dX2_init_144 : decode cX2_init 144 = .ok (.putfield 61, 3) := dk_181 0 61 (dk_at dksX2_init_6 4 rfl rfl)
theorem dX2_init_147 : decode cX2_init 147 = .ok (.aload_n 0, 1) := dk_42 (dk_at dksX2_init_6 7 rfl rfl)
theorem dX2_init_148 : decode cX2_init 148 = .ok (.sipush 200, 3) := dk_17 0 200 (dk_at dksX2_init_6 8 rfl rfl)
theorem dX2_init_151 : decode cX2_init 151 = .ok (.newarray .int, 2) := dk_188_10 (dk_at dksX2_init_6 11 rfl rfl)
theorem dX2_init_153 : decode cX2_init 153 = .ok (.putfield 64, 3) := dk_181 0 64 (dk_at dksX2_init_6 13 rfl rfl)
theorem dX2_init_156 : decode cX2_init 156 = .ok (.aload_n 0, 1) := dk_42 (dk_at dksX2_init_6 16 rfl rfl)
theorem dX2_init_157 : decode cX2_init 157 = .ok (.sipush 200, 3) := dk_17 0 200 (dk_at dksX2_init_6 17 rfl rfl)
theorem dX2_init_160 : decode cX2_init 160 = .ok (.newarray .int, 2) := dk_188_10 (dk_at dksX2_init_6 20 rfl rfl)
theorem dX2_init_162 : decode cX2_init 162 = .ok (.putfield 67, 3) := dk_181 0 67 (dk_at dksX2_init_7 0 rfl rfl)
theorem dX2_init_165 : decode cX2_init 165 = .ok (.aload_n 0, 1) := dk_42 (dk_at dksX2_init_7 3 rfl rfl)
theorem dX2_init_166 : decode cX2_init 166 = .ok (.sipush 200, 3) := dk_17 0 200 (dk_at dksX2_init_7 4 rfl rfl)
theorem dX2_init_169 : decode cX2_init 169 = .ok (.newarray .int, 2) := dk_188_10 (dk_at dksX2_init_7 7 rfl rfl)
theorem dX2_init_171 : decode cX2_init 171 = .ok (.putfield 70, 3) := dk_181 0 70 (dk_at dksX2_init_7 9 rfl rfl)
theorem dX2_init_174 : decode cX2_init 174 = .ok (.aload_n 0, 1) := dk_42 (dk_at dksX2_init_7 12 rfl rfl)
theorem dX2_init_175 : decode cX2_init 175 = .ok (.sipush 200, 3) := dk_17 0 200 (dk_at dksX2_init_7 13 rfl rfl)
theorem dX2_init_178 : decode cX2_init 178 = .ok (.newarray .int, 2) := dk_188_10 (dk_at dksX2_init_7 16 rfl rfl)
theorem dX2_init_180 : decode cX2_init 180 = .ok (.putfield 73, 3) := dk_181 0 73 (dk_at dksX2_init_7 18 rfl rfl)
theorem dX2_init_183 : decode cX2_init 183 = .ok (.aload_n 0, 1) := dk_42 (dk_at dksX2_init_7 21 rfl rfl)
theorem dX2_init_184 : decode cX2_init 184 = .ok (.bipush 100, 2) := dk_16 100 (dk_at dksX2_init_7 22 rfl rfl)
theorem dX2_init_186 : decode cX2_init 186 = .ok (.newarray .int, 2) := dk_188_10 (dk_at dksX2_init_8 0 rfl rfl)
theorem dX2_init_188 : decode cX2_init 188 = .ok (.putfield 76, 3) := dk_181 0 76 (dk_at dksX2_init_8 2 rfl rfl)
theorem dX2_init_191 : decode cX2_init 191 = .ok (.aload_n 0, 1) := dk_42 (dk_at dksX2_init_8 5 rfl rfl)
theorem dX2_init_192 : decode cX2_init 192 = .ok (.bipush 100, 2) := dk_16 100 (dk_at dksX2_init_8 6 rfl rfl)
theorem dX2_init_194 : decode cX2_init 194 = .ok (.newarray .int, 2) := dk_188_10 (dk_at dksX2_init_8 8 rfl rfl)
theorem dX2_init_196 : decode cX2_init 196 = .ok (.putfield 79, 3) := dk_181 0 79 (dk_at dksX2_init_8 10 rfl rfl)
theorem dX2_init_199 : decode cX2_init 199 = .ok (.aload_n 0, 1) := dk_42 (dk_at dksX2_init_8 13 rfl rfl)
theorem dX2_init_200 : decode cX2_init 200 = .ok (.bipush 60, 2) := dk_16 60 (dk_at dksX2_init_8 14 rfl rfl)
theorem dX2_init_202 : decode cX2_init 202 = .ok (.newarray .int, 2) := dk_188_10 (dk_at dksX2_init_8 16 rfl rfl)
theorem dX2_init_204 : decode cX2_init 204 = .ok (.putfield 82, 3) := dk_181 0 82 (dk_at dksX2_init_8 18 rfl rfl)
theorem dX2_init_207 : decode cX2_init 207 = .ok (.aload_n 0, 1) := dk_42 (dk_at dksX2_init_8 21 rfl rfl)
theorem dX2_init_208 : decode cX2_init 208 = .ok (.bipush 18, 2) := dk_16 18 (dk_at dksX2_init_8 22 rfl rfl)
theorem dX2_init_210 : decode cX2_init 210 = .ok (.newarray .int, 2) := dk_188_10 (dk_at dksX2_init_9 0 rfl rfl)
theorem dX2_init_212 : decode cX2_init 212 = .ok (.putfield 85, 3) := dk_181 0 85 (dk_at dksX2_init_9 2 rfl rfl)
theorem dX2_init_215 : decode cX2_init 215 = .ok (.aload_n 0, 1) := dk_42 (dk_at dksX2_init_9 5 rfl rfl)
theorem dX2_init_216 : decode cX2_init 216 = .ok (.iconst (-1), 1) := dk_2 (dk_at dksX2_init_9 6 rfl rfl)
theorem dX2_init_217 : decode cX2_init 217 = .ok (.putfield 88, 3) := dk_181 0 88 (dk_at dksX2_init_9 7 rfl rfl)
theorem dX2_init_220 : decode cX2_init 220 = .ok (.aload_n 0, 1) := dk_42 (dk_at dksX2_init_9 10 rfl rfl)
theorem dX2_init_221 : decode cX2_init 221 = .ok (.getfield 25, 3) := dk_180 0 25 (dk_at dksX2_init_9 11 rfl rfl)
theorem dX2_init_224 : decode cX2_init 224 = .ok (.iconst 0, 1) := dk_3 (dk_at dksX2_init_9 14 rfl rfl)
theorem dX2_init_225 : decode cX2_init 225 = .ok (.iconst (-1), 1) := dk_2 (dk_at dksX2_init_9 15 rfl rfl)
theorem dX2_init_226 : decode cX2_init 226 = .ok (.iastore, 1) := dk_79 (dk_at dksX2_init_9 16 rfl rfl)
theorem dX2_init_227 : decode cX2_init 227 = .ok (.return_, 1) := dk_177 (dk_at dksX2_init_9 17 rfl rfl)
abbrev cX2_letter : ByteArray := prog_11_method_4_code
def yX2_letter : MethodName := ⟨RX2, "letter", "(I)I"⟩
def dkwX2_letter_2 : List UInt8 := [180, 0, 98, 172]
abbrev dktX2_letter_2 : List UInt8 := dkwX2_letter_2 ++ []
def dkwX2_letter_1 : List UInt8 := [16, 152, 172, 42, 180, 0, 7, 42, 180, 0, 98, 27, 79, 42, 89, 180, 0, 98, 4, 96, 181, 0, 98, 42]
abbrev dktX2_letter_1 : List UInt8 := dkwX2_letter_1 ++ dktX2_letter_2
def dkwX2_letter_0 : List UInt8 := [27, 133, 10, 20, 0, 92, 184, 0, 94, 154, 0, 6, 16, 154, 172, 42, 180, 0, 98, 16, 54, 160, 0, 6]
abbrev dktX2_letter_0 : List UInt8 := dkwX2_letter_0 ++ dktX2_letter_1
theorem dksX2_letter_0 : cX2_letter.data.toList.drop 0 = dktX2_letter_0 := by decide +kernel
theorem dksX2_letter_1 : cX2_letter.data.toList.drop 24 = dktX2_letter_1 := dk_seg dksX2_letter_0 24 rfl rfl
theorem dksX2_letter_2 : cX2_letter.data.toList.drop 48 = dktX2_letter_2 := dk_seg dksX2_letter_1 24 rfl rfl
theorem dX2_letter_0 : decode cX2_letter 0 = .ok (.iload_n 1, 1) := dk_27 (dk_at dksX2_letter_0 0 rfl rfl)
theorem dX2_letter_1 : decode cX2_letter 1 = .ok (.i2l, 1) := dk_133 (dk_at dksX2_letter_0 1 rfl rfl)
theorem dX2_letter_2 : decode cX2_letter 2 = .ok (.lconst 1, 1) := dk_10 (dk_at dksX2_letter_0 2 rfl rfl)
theorem dX2_letter_3 : decode cX2_letter 3 = .ok (.ldc2_w 92, 3) := dk_20 0 92 (dk_at dksX2_letter_0 3 rfl rfl)
theorem dX2_letter_6 : decode cX2_letter 6 = .ok (.invokestatic 94, 3) := dk_184 0 94 (dk_at dksX2_letter_0 6 rfl rfl)
theorem dX2_letter_9 : decode cX2_letter 9 = .ok (.ifCond .ne 6, 3) := dk_154 0 6 (dk_at dksX2_letter_0 9 rfl rfl)
theorem dX2_letter_12 : decode cX2_letter 12 = .ok (.bipush (-102), 2) := dk_16 154 (dk_at dksX2_letter_0 12 rfl rfl)
theorem dX2_letter_14 : decode cX2_letter 14 = .ok (.ireturn, 1) := dk_172 (dk_at dksX2_letter_0 14 rfl rfl)
theorem dX2_letter_15 : decode cX2_letter 15 = .ok (.aload_n 0, 1) := dk_42 (dk_at dksX2_letter_0 15 rfl rfl)
theorem dX2_letter_16 : decode cX2_letter 16 = .ok (.getfield 98, 3) := dk_180 0 98 (dk_at dksX2_letter_0 16 rfl rfl)
theorem dX2_letter_19 : decode cX2_letter 19 = .ok (.bipush 54, 2) := dk_16 54 (dk_at dksX2_letter_0 19 rfl rfl)
theorem dX2_letter_21 : decode cX2_letter 21 = .ok (.if_icmp .ne 6, 3) := dk_160 0 6 (dk_at dksX2_letter_0 21 rfl rfl)
theorem dX2_letter_24 : decode cX2_letter 24 = .ok (.bipush (-104), 2) := dk_16 152 (dk_at dksX2_letter_1 0 rfl rfl)
theorem dX2_letter_26 : decode cX2_letter 26 = .ok (.ireturn, 1) := dk_172 (dk_at dksX2_letter_1 2 rfl rfl)
theorem dX2_letter_27 : decode cX2_letter 27 = .ok (.aload_n 0, 1) := dk_42 (dk_at dksX2_letter_1 3 rfl rfl)
theorem dX2_letter_28 : decode cX2_letter 28 = .ok (.getfield 7, 3) := dk_180 0 7 (dk_at dksX2_letter_1 4 rfl rfl)
theorem dX2_letter_31 : decode cX2_letter 31 = .ok (.aload_n 0, 1) := dk_42 (dk_at dksX2_letter_1 7 rfl rfl)
theorem dX2_letter_32 : decode cX2_letter 32 = .ok (.getfield 98, 3) := dk_180 0 98 (dk_at dksX2_letter_1 8 rfl rfl)
theorem dX2_letter_35 : decode cX2_letter 35 = .ok (.iload_n 1, 1) := dk_27 (dk_at dksX2_letter_1 11 rfl rfl)
theorem dX2_letter_36 : decode cX2_letter 36 = .ok (.iastore, 1) := dk_79 (dk_at dksX2_letter_1 12 rfl rfl)
theorem dX2_letter_37 : decode cX2_letter 37 = .ok (.aload_n 0, 1) := dk_42 (dk_at dksX2_letter_1 13 rfl rfl)
theorem dX2_letter_38 : decode cX2_letter 38 = .ok (.dup, 1) := dk_89 (dk_at dksX2_letter_1 14 rfl rfl)
theorem dX2_letter_39 : decode cX2_letter 39 = .ok (.getfield 98, 3) := dk_180 0 98 (dk_at dksX2_letter_1 15 rfl rfl)
theorem dX2_letter_42 : decode cX2_letter 42 = .ok (.iconst 1, 1) := dk_4 (dk_at dksX2_letter_1 18 rfl rfl)
theorem dX2_letter_43 : decode cX2_letter 43 = .ok (.iadd, 1) := dk_96 (dk_at dksX2_letter_1 19 rfl rfl)
theorem dX2_letter_44 : decode cX2_letter 44 = .ok (.putfield 98, 3) := dk_181 0 98 (dk_at dksX2_letter_1 20 rfl rfl)
theorem dX2_letter_47 : decode cX2_letter 47 = .ok (.aload_n 0, 1) := dk_42 (dk_at dksX2_letter_1 23 rfl rfl)
theorem dX2_letter_48 : decode cX2_letter 48 = .ok (.getfield 98, 3) := dk_180 0 98 (dk_at dksX2_letter_2 0 rfl rfl)
theorem dX2_letter_51 : decode cX2_letter 51 = .ok (.ireturn, 1) := dk_172 (dk_at dksX2_letter_2 3 rfl rfl)
abbrev cX2_in : ByteArray := prog_11_method_2_code
def yX2_in : MethodName := ⟨RX2, "in", "(JJJ)Z"⟩
def dkwX2_in_0 : List UInt8 := [30, 32, 148, 155, 0, 14, 30, 22, 4, 148, 157, 0, 7, 4, 167, 0, 4, 3, 172]
abbrev dktX2_in_0 : List UInt8 := dkwX2_in_0 ++ []
theorem dksX2_in_0 : cX2_in.data.toList.drop 0 = dktX2_in_0 := by decide +kernel
theorem dX2_in_0 : decode cX2_in 0 = .ok (.lload_n 0, 1) := dk_30 (dk_at dksX2_in_0 0 rfl rfl)
theorem dX2_in_1 : decode cX2_in 1 = .ok (.lload_n 2, 1) := dk_32 (dk_at dksX2_in_0 1 rfl rfl)
theorem dX2_in_2 : decode cX2_in 2 = .ok (.lcmp, 1) := dk_148 (dk_at dksX2_in_0 2 rfl rfl)
theorem dX2_in_3 : decode cX2_in 3 = .ok (.ifCond .lt 14, 3) := dk_155 0 14 (dk_at dksX2_in_0 3 rfl rfl)
theorem dX2_in_6 : decode cX2_in 6 = .ok (.lload_n 0, 1) := dk_30 (dk_at dksX2_in_0 6 rfl rfl)
theorem dX2_in_7 : decode cX2_in 7 = .ok (.lload 4, 2) := dk_22 4 (dk_at dksX2_in_0 7 rfl rfl)
theorem dX2_in_9 : decode cX2_in 9 = .ok (.lcmp, 1) := dk_148 (dk_at dksX2_in_0 9 rfl rfl)
theorem dX2_in_10 : decode cX2_in 10 = .ok (.ifCond .gt 7, 3) := dk_157 0 7 (dk_at dksX2_in_0 10 rfl rfl)
theorem dX2_in_13 : decode cX2_in 13 = .ok (.iconst 1, 1) := dk_4 (dk_at dksX2_in_0 13 rfl rfl)
theorem dX2_in_14 : decode cX2_in 14 = .ok (.goto 4, 3) := dk_167 0 4 (dk_at dksX2_in_0 14 rfl rfl)
theorem dX2_in_17 : decode cX2_in 17 = .ok (.iconst 0, 1) := dk_3 (dk_at dksX2_in_0 17 rfl rfl)
theorem dX2_in_18 : decode cX2_in 18 = .ok (.ireturn, 1) := dk_172 (dk_at dksX2_in_0 18 rfl rfl)
abbrev cX2_blank : ByteArray := prog_11_method_5_code
def yX2_blank : MethodName := ⟨RX2, "blank", "()I"⟩
def dkwX2_blank_0 : List UInt8 := [42, 180, 0, 98, 60, 42, 3, 181, 0, 98, 27, 172]
abbrev dktX2_blank_0 : List UInt8 := dkwX2_blank_0 ++ []
theorem dksX2_blank_0 : cX2_blank.data.toList.drop 0 = dktX2_blank_0 := by decide +kernel
theorem dX2_blank_0 : decode cX2_blank 0 = .ok (.aload_n 0, 1) := dk_42 (dk_at dksX2_blank_0 0 rfl rfl)
theorem dX2_blank_1 : decode cX2_blank 1 = .ok (.getfield 98, 3) := dk_180 0 98 (dk_at dksX2_blank_0 1 rfl rfl)
theorem dX2_blank_4 : decode cX2_blank 4 = .ok (.istore_n 1, 1) := dk_60 (dk_at dksX2_blank_0 4 rfl rfl)
theorem dX2_blank_5 : decode cX2_blank 5 = .ok (.aload_n 0, 1) := dk_42 (dk_at dksX2_blank_0 5 rfl rfl)
theorem dX2_blank_6 : decode cX2_blank 6 = .ok (.iconst 0, 1) := dk_3 (dk_at dksX2_blank_0 6 rfl rfl)
theorem dX2_blank_7 : decode cX2_blank 7 = .ok (.putfield 98, 3) := dk_181 0 98 (dk_at dksX2_blank_0 7 rfl rfl)
theorem dX2_blank_10 : decode cX2_blank 10 = .ok (.iload_n 1, 1) := dk_27 (dk_at dksX2_blank_0 10 rfl rfl)
theorem dX2_blank_11 : decode cX2_blank 11 = .ok (.ireturn, 1) := dk_172 (dk_at dksX2_blank_0 11 rfl rfl)
abbrev cX2_fault : ByteArray := prog_11_method_13_code
def yX2_fault : MethodName := ⟨RX2, "fault", "()I"⟩
theorem dX2_fault_0 : decode cX2_fault 0 = .ok (.aload_n 0, 1) := by decide +kernel
theorem dX2_fault_1 : decode cX2_fault 1 = .ok (.invokevirtual 134, 3) := by decide +kernel
theorem dX2_fault_4 : decode cX2_fault 4 = .ok (.ireturn, 1) := by decide +kernel
abbrev cX2_faultOf : ByteArray := prog_11_method_12_code
def yX2_faultOf : MethodName := ⟨RX2, "faultOf", "()I"⟩
def dkwX2_faultOf_1 : List UInt8 := [27, 172]
abbrev dktX2_faultOf_1 : List UInt8 := dkwX2_faultOf_1 ++ []
def dkwX2_faultOf_0 : List UInt8 := [3, 60, 27, 42, 180, 0, 98, 162, 0, 17, 42, 27, 182, 0, 131, 153, 0, 9, 132, 1, 1, 167, 255, 237]
abbrev dktX2_faultOf_0 : List UInt8 := dkwX2_faultOf_0 ++ dktX2_faultOf_1
theorem dksX2_faultOf_0 : cX2_faultOf.data.toList.drop 0 = dktX2_faultOf_0 := by decide +kernel
theorem dksX2_faultOf_1 : cX2_faultOf.data.toList.drop 24 = dktX2_faultOf_1 := dk_seg dksX2_faultOf_0 24 rfl rfl
theorem dX2_faultOf_0 : decode cX2_faultOf 0 = .ok (.iconst 0, 1) := dk_3 (dk_at dksX2_faultOf_0 0 rfl rfl)
theorem dX2_faultOf_1 : decode cX2_faultOf 1 = .ok (.istore_n 1, 1) := dk_60 (dk_at dksX2_faultOf_0 1 rfl rfl)
theorem dX2_faultOf_2 : decode cX2_faultOf 2 = .ok (.iload_n 1, 1) := dk_27 (dk_at dksX2_faultOf_0 2 rfl rfl)
theorem dX2_faultOf_3 : decode cX2_faultOf 3 = .ok (.aload_n 0, 1) := dk_42 (dk_at dksX2_faultOf_0 3 rfl rfl)
theorem dX2_faultOf_4 : decode cX2_faultOf 4 = .ok (.getfield 98, 3) := dk_180 0 98 (dk_at dksX2_faultOf_0 4 rfl rfl)
theorem dX2_faultOf_7 : decode cX2_faultOf 7 = .ok (.if_icmp .ge 17, 3) := dk_162 0 17 (dk_at dksX2_faultOf_0 7 rfl rfl)
theorem dX2_faultOf_10 : decode cX2_faultOf 10 = .ok (.aload_n 0, 1) := dk_42 (dk_at dksX2_faultOf_0 10 rfl rfl)
theorem dX2_faultOf_11 : decode cX2_faultOf 11 = .ok (.iload_n 1, 1) := dk_27 (dk_at dksX2_faultOf_0 11 rfl rfl)
theorem dX2_faultOf_12 : decode cX2_faultOf 12 = .ok (.invokevirtual 131, 3) := dk_182 0 131 (dk_at dksX2_faultOf_0 12 rfl rfl)
theorem dX2_faultOf_15 : decode cX2_faultOf 15 = .ok (.ifCond .eq 9, 3) := dk_153 0 9 (dk_at dksX2_faultOf_0 15 rfl rfl)
theorem dX2_faultOf_18 : decode cX2_faultOf 18 = .ok (.iinc 1 1, 3) := dk_132 1 1 (dk_at dksX2_faultOf_0 18 rfl rfl)
theorem dX2_faultOf_21 : decode cX2_faultOf 21 = .ok (.goto (-19), 3) := dk_167 255 237 (dk_at dksX2_faultOf_0 21 rfl rfl)
theorem dX2_faultOf_24 : decode cX2_faultOf 24 = .ok (.iload_n 1, 1) := dk_27 (dk_at dksX2_faultOf_1 0 rfl rfl)
theorem dX2_faultOf_25 : decode cX2_faultOf 25 = .ok (.ireturn, 1) := dk_172 (dk_at dksX2_faultOf_1 1 rfl rfl)
abbrev cX2_isGood : ByteArray := prog_11_method_11_code
def yX2_isGood : MethodName := ⟨RX2, "isGood", "(I)Z"⟩
def dkwX2_isGood_4 : List UInt8 := [167, 0, 4, 3, 172, 42, 27, 182, 0, 128, 172]
abbrev dktX2_isGood_4 : List UInt8 := dkwX2_isGood_4 ++ []
def dkwX2_isGood_3 : List UInt8 := [100, 184, 0, 122, 172, 28, 133, 20, 0, 126, 20, 0, 112, 184, 0, 94, 172, 28, 16, 59, 160, 0, 7, 4]
abbrev dktX2_isGood_3 : List UInt8 := dkwX2_isGood_3 ++ dktX2_isGood_4
def dkwX2_isGood_2 : List UInt8 := [28, 133, 20, 0, 118, 20, 0, 120, 184, 0, 94, 172, 42, 180, 0, 7, 3, 46, 16, 48, 100, 28, 16, 48]
abbrev dktX2_isGood_2 : List UInt8 := dkwX2_isGood_2 ++ dktX2_isGood_3
def dkwX2_isGood_1 : List UInt8 := [170, 0, 0, 0, 0, 0, 0, 89, 0, 0, 0, 0, 0, 0, 0, 4, 0, 0, 0, 36, 0, 0, 0, 48, 0, 0, 0, 77, 0, 0, 0, 65, 0, 0, 0, 77]
abbrev dktX2_isGood_1 : List UInt8 := dkwX2_isGood_1 ++ dktX2_isGood_2
def dkwX2_isGood_0 : List UInt8 := [42, 180, 0, 7, 27, 46, 61, 27]
abbrev dktX2_isGood_0 : List UInt8 := dkwX2_isGood_0 ++ dktX2_isGood_1
theorem dksX2_isGood_0 : cX2_isGood.data.toList.drop 0 = dktX2_isGood_0 := by decide +kernel
theorem dksX2_isGood_1 : cX2_isGood.data.toList.drop 8 = dktX2_isGood_1 := dk_seg dksX2_isGood_0 8 rfl rfl
theorem dksX2_isGood_2 : cX2_isGood.data.toList.drop 44 = dktX2_isGood_2 := dk_seg dksX2_isGood_1 36 rfl rfl
theorem dksX2_isGood_3 : cX2_isGood.data.toList.drop 68 = dktX2_isGood_3 := dk_seg dksX2_isGood_2 24 rfl rfl
theorem dksX2_isGood_4 : cX2_isGood.data.toList.drop 92 = dktX2_isGood_4 := dk_seg dksX2_isGood_3 24 rfl rfl
theorem dX2_isGood_0 : decode cX2_isGood 0 = .ok (.aload_n 0, 1) := dk_42 (dk_at dksX2_isGood_0 0 rfl rfl)
theorem dX2_isGood_1 : decode cX2_isGood 1 = .ok (.getfield 7, 3) := dk_180 0 7 (dk_at dksX2_isGood_0 1 rfl rfl)
theorem dX2_isGood_4 : decode cX2_isGood 4 = .ok (.iload_n 1, 1) := dk_27 (dk_at dksX2_isGood_0 4 rfl rfl)
theorem dX2_isGood_5 : decode cX2_isGood 5 = .ok (.iaload, 1) := dk_46 (dk_at dksX2_isGood_0 5 rfl rfl)
theorem dX2_isGood_6 : decode cX2_isGood 6 = .ok (.istore_n 2, 1) := dk_61 (dk_at dksX2_isGood_0 6 rfl rfl)
theorem dX2_isGood_7 : decode cX2_isGood 7 = .ok (.iload_n 1, 1) := dk_27 (dk_at dksX2_isGood_0 7 rfl rfl)
theorem dX2_isGood_8 : decode cX2_isGood 8 = .ok (.tableswitch 89 0 4 #[36, 48, 77, 65, 77], 36) := by decide +kernel
theorem dX2_isGood_44 : decode cX2_isGood 44 = .ok (.iload_n 2, 1) := dk_28 (dk_at dksX2_isGood_2 0 rfl rfl)
theorem dX2_isGood_45 : decode cX2_isGood 45 = .ok (.i2l, 1) := dk_133 (dk_at dksX2_isGood_2 1 rfl rfl)
theorem dX2_isGood_46 : decode cX2_isGood 46 = .ok (.ldc2_w 118, 3) := dk_20 0 118 (dk_at dksX2_isGood_2 2 rfl rfl)
theorem dX2_isGood_49 : decode cX2_isGood 49 = .ok (.ldc2_w 120, 3) := dk_20 0 120 (dk_at dksX2_isGood_2 5 rfl rfl)
theorem dX2_isGood_52 : decode cX2_isGood 52 = .ok (.invokestatic 94, 3) := dk_184 0 94 (dk_at dksX2_isGood_2 8 rfl rfl)
theorem dX2_isGood_55 : decode cX2_isGood 55 = .ok (.ireturn, 1) := dk_172 (dk_at dksX2_isGood_2 11 rfl rfl)
theorem dX2_isGood_56 : decode cX2_isGood 56 = .ok (.aload_n 0, 1) := dk_42 (dk_at dksX2_isGood_2 12 rfl rfl)
theorem dX2_isGood_57 : decode cX2_isGood 57 = .ok (.getfield 7, 3) := dk_180 0 7 (dk_at dksX2_isGood_2 13 rfl rfl)
theorem dX2_isGood_60 : decode cX2_isGood 60 = .ok (.iconst 0, 1) := dk_3 (dk_at dksX2_isGood_2 16 rfl rfl)
theorem dX2_isGood_61 : decode cX2_isGood 61 = .ok (.iaload, 1) := dk_46 (dk_at dksX2_isGood_2 17 rfl rfl)
theorem dX2_isGood_62 : decode cX2_isGood 62 = .ok (.bipush 48, 2) := dk_16 48 (dk_at dksX2_isGood_2 18 rfl rfl)
theorem dX2_isGood_64 : decode cX2_isGood 64 = .ok (.isub, 1) := dk_100 (dk_at dksX2_isGood_2 20 rfl rfl)
theorem dX2_isGood_65 : decode cX2_isGood 65 = .ok (.iload_n 2, 1) := dk_28 (dk_at dksX2_isGood_2 21 rfl rfl)
theorem dX2_isGood_66 : decode cX2_isGood 66 = .ok (.bipush 48, 2) := dk_16 48 (dk_at dksX2_isGood_2 22 rfl rfl)
theorem dX2_isGood_68 : decode cX2_isGood 68 = .ok (.isub, 1) := dk_100 (dk_at dksX2_isGood_3 0 rfl rfl)
theorem dX2_isGood_69 : decode cX2_isGood 69 = .ok (.invokestatic 122, 3) := dk_184 0 122 (dk_at dksX2_isGood_3 1 rfl rfl)
theorem dX2_isGood_72 : decode cX2_isGood 72 = .ok (.ireturn, 1) := dk_172 (dk_at dksX2_isGood_3 4 rfl rfl)
theorem dX2_isGood_73 : decode cX2_isGood 73 = .ok (.iload_n 2, 1) := dk_28 (dk_at dksX2_isGood_3 5 rfl rfl)
theorem dX2_isGood_74 : decode cX2_isGood 74 = .ok (.i2l, 1) := dk_133 (dk_at dksX2_isGood_3 6 rfl rfl)
theorem dX2_isGood_75 : decode cX2_isGood 75 = .ok (.ldc2_w 126, 3) := dk_20 0 126 (dk_at dksX2_isGood_3 7 rfl rfl)
theorem dX2_isGood_78 : decode cX2_isGood 78 = .ok (.ldc2_w 112, 3) := dk_20 0 112 (dk_at dksX2_isGood_3 10 rfl rfl)
theorem dX2_isGood_81 : decode cX2_isGood 81 = .ok (.invokestatic 94, 3) := dk_184 0 94 (dk_at dksX2_isGood_3 13 rfl rfl)
theorem dX2_isGood_84 : decode cX2_isGood 84 = .ok (.ireturn, 1) := dk_172 (dk_at dksX2_isGood_3 16 rfl rfl)
theorem dX2_isGood_85 : decode cX2_isGood 85 = .ok (.iload_n 2, 1) := dk_28 (dk_at dksX2_isGood_3 17 rfl rfl)
theorem dX2_isGood_86 : decode cX2_isGood 86 = .ok (.bipush 59, 2) := dk_16 59 (dk_at dksX2_isGood_3 18 rfl rfl)
theorem dX2_isGood_88 : decode cX2_isGood 88 = .ok (.if_icmp .ne 7, 3) := dk_160 0 7 (dk_at dksX2_isGood_3 20 rfl rfl)
theorem dX2_isGood_91 : decode cX2_isGood 91 = .ok (.iconst 1, 1) := dk_4 (dk_at dksX2_isGood_3 23 rfl rfl)
theorem dX2_isGood_92 : decode cX2_isGood 92 = .ok (.goto 4, 3) := dk_167 0 4 (dk_at dksX2_isGood_4 0 rfl rfl)
theorem dX2_isGood_95 : decode cX2_isGood 95 = .ok (.iconst 0, 1) := dk_3 (dk_at dksX2_isGood_4 3 rfl rfl)
theorem dX2_isGood_96 : decode cX2_isGood 96 = .ok (.ireturn, 1) := dk_172 (dk_at dksX2_isGood_4 4 rfl rfl)
theorem dX2_isGood_97 : decode cX2_isGood 97 = .ok (.aload_n 0, 1) := dk_42 (dk_at dksX2_isGood_4 5 rfl rfl)
theorem dX2_isGood_98 : decode cX2_isGood 98 = .ok (.iload_n 1, 1) := dk_27 (dk_at dksX2_isGood_4 6 rfl rfl)
theorem dX2_isGood_99 : decode cX2_isGood 99 = .ok (.invokevirtual 128, 3) := dk_182 0 128 (dk_at dksX2_isGood_4 7 rfl rfl)
theorem dX2_isGood_102 : decode cX2_isGood 102 = .ok (.ireturn, 1) := dk_172 (dk_at dksX2_isGood_4 10 rfl rfl)
abbrev cX2_isRatio : ByteArray := prog_11_method_7_code
def yX2_isRatio : MethodName := ⟨RX2, "isRatio", "(II)Z"⟩
def dkwX2_isRatio_1 : List UInt8 := [27, 164, 0, 7, 4, 167, 0, 4, 3, 172]
abbrev dktX2_isRatio_1 : List UInt8 := dkwX2_isRatio_1 ++ []
def dkwX2_isRatio_0 : List UInt8 := [27, 133, 10, 20, 0, 101, 184, 0, 94, 153, 0, 23, 26, 158, 0, 19, 26, 27, 162, 0, 14, 5, 26, 104]
abbrev dktX2_isRatio_0 : List UInt8 := dkwX2_isRatio_0 ++ dktX2_isRatio_1
theorem dksX2_isRatio_0 : cX2_isRatio.data.toList.drop 0 = dktX2_isRatio_0 := by decide +kernel
theorem dksX2_isRatio_1 : cX2_isRatio.data.toList.drop 24 = dktX2_isRatio_1 := dk_seg dksX2_isRatio_0 24 rfl rfl
theorem dX2_isRatio_0 : decode cX2_isRatio 0 = .ok (.iload_n 1, 1) := dk_27 (dk_at dksX2_isRatio_0 0 rfl rfl)
theorem dX2_isRatio_1 : decode cX2_isRatio 1 = .ok (.i2l, 1) := dk_133 (dk_at dksX2_isRatio_0 1 rfl rfl)
theorem dX2_isRatio_2 : decode cX2_isRatio 2 = .ok (.lconst 1, 1) := dk_10 (dk_at dksX2_isRatio_0 2 rfl rfl)
theorem dX2_isRatio_3 : decode cX2_isRatio 3 = .ok (.ldc2_w 101, 3) := dk_20 0 101 (dk_at dksX2_isRatio_0 3 rfl rfl)
theorem dX2_isRatio_6 : decode cX2_isRatio 6 = .ok (.invokestatic 94, 3) := dk_184 0 94 (dk_at dksX2_isRatio_0 6 rfl rfl)
theorem dX2_isRatio_9 : decode cX2_isRatio 9 = .ok (.ifCond .eq 23, 3) := dk_153 0 23 (dk_at dksX2_isRatio_0 9 rfl rfl)
theorem dX2_isRatio_12 : decode cX2_isRatio 12 = .ok (.iload_n 0, 1) := dk_26 (dk_at dksX2_isRatio_0 12 rfl rfl)
theorem dX2_isRatio_13 : decode cX2_isRatio 13 = .ok (.ifCond .le 19, 3) := dk_158 0 19 (dk_at dksX2_isRatio_0 13 rfl rfl)
theorem dX2_isRatio_16 : decode cX2_isRatio 16 = .ok (.iload_n 0, 1) := dk_26 (dk_at dksX2_isRatio_0 16 rfl rfl)
theorem dX2_isRatio_17 : decode cX2_isRatio 17 = .ok (.iload_n 1, 1) := dk_27 (dk_at dksX2_isRatio_0 17 rfl rfl)
theorem dX2_isRatio_18 : decode cX2_isRatio 18 = .ok (.if_icmp .ge 14, 3) := dk_162 0 14 (dk_at dksX2_isRatio_0 18 rfl rfl)
theorem dX2_isRatio_21 : decode cX2_isRatio 21 = .ok (.iconst 2, 1) := dk_5 (dk_at dksX2_isRatio_0 21 rfl rfl)
theorem dX2_isRatio_22 : decode cX2_isRatio 22 = .ok (.iload_n 0, 1) := dk_26 (dk_at dksX2_isRatio_0 22 rfl rfl)
theorem dX2_isRatio_23 : decode cX2_isRatio 23 = .ok (.imul, 1) := dk_104 (dk_at dksX2_isRatio_0 23 rfl rfl)
theorem dX2_isRatio_24 : decode cX2_isRatio 24 = .ok (.iload_n 1, 1) := dk_27 (dk_at dksX2_isRatio_1 0 rfl rfl)
theorem dX2_isRatio_25 : decode cX2_isRatio 25 = .ok (.if_icmp .le 7, 3) := dk_164 0 7 (dk_at dksX2_isRatio_1 1 rfl rfl)
theorem dX2_isRatio_28 : decode cX2_isRatio 28 = .ok (.iconst 1, 1) := dk_4 (dk_at dksX2_isRatio_1 4 rfl rfl)
theorem dX2_isRatio_29 : decode cX2_isRatio 29 = .ok (.goto 4, 3) := dk_167 0 4 (dk_at dksX2_isRatio_1 5 rfl rfl)
theorem dX2_isRatio_32 : decode cX2_isRatio 32 = .ok (.iconst 0, 1) := dk_3 (dk_at dksX2_isRatio_1 8 rfl rfl)
theorem dX2_isRatio_33 : decode cX2_isRatio 33 = .ok (.ireturn, 1) := dk_172 (dk_at dksX2_isRatio_1 9 rfl rfl)
abbrev cX2_isEntrySign : ByteArray := prog_11_method_10_code
def yX2_isEntrySign : MethodName := ⟨RX2, "isEntrySign", "(I)Z"⟩
def dkwX2_isEntrySign_5 : List UInt8 := [160, 0, 13, 27, 16, 52, 162, 0, 7, 4, 167, 0, 4, 3, 172]
abbrev dktX2_isEntrySign_5 : List UInt8 := dkwX2_isEntrySign_5 ++ []
def dkwX2_isEntrySign_4 : List UInt8 := [154, 0, 7, 4, 167, 0, 4, 3, 172, 28, 16, 61, 160, 0, 7, 4, 167, 0, 4, 3, 172, 28, 16, 44]
abbrev dktX2_isEntrySign_4 : List UInt8 := dkwX2_isEntrySign_4 ++ dktX2_isEntrySign_5
def dkwX2_isEntrySign_3 : List UInt8 := [184, 0, 94, 172, 28, 133, 20, 0, 110, 20, 0, 112, 184, 0, 94, 153, 0, 15, 42, 27, 182, 0, 114]
abbrev dktX2_isEntrySign_3 : List UInt8 := dkwX2_isEntrySign_3 ++ dktX2_isEntrySign_4
def dkwX2_isEntrySign_2 : List UInt8 := [28, 184, 0, 107, 2, 159, 0, 7, 4, 167, 0, 4, 3, 172, 28, 133, 20, 0, 110, 20, 0, 112]
abbrev dktX2_isEntrySign_2 : List UInt8 := dkwX2_isEntrySign_2 ++ dktX2_isEntrySign_3
def dkwX2_isEntrySign_1 : List UInt8 := [170, 0, 0, 0, 0, 0, 101, 0, 0, 0, 0, 0, 0, 0, 4, 0, 0, 0, 35, 0, 0, 0, 49, 0, 0, 0, 61, 0, 0, 0, 89, 0, 0, 0, 49]
abbrev dktX2_isEntrySign_1 : List UInt8 := dkwX2_isEntrySign_1 ++ dktX2_isEntrySign_2
def dkwX2_isEntrySign_0 : List UInt8 := [42, 180, 0, 7, 27, 46, 61, 27, 8, 100, 16, 6, 112]
abbrev dktX2_isEntrySign_0 : List UInt8 := dkwX2_isEntrySign_0 ++ dktX2_isEntrySign_1
theorem dksX2_isEntrySign_0 : cX2_isEntrySign.data.toList.drop 0 = dktX2_isEntrySign_0 := by decide +kernel
theorem dksX2_isEntrySign_1 : cX2_isEntrySign.data.toList.drop 13 = dktX2_isEntrySign_1 := dk_seg dksX2_isEntrySign_0 13 rfl rfl
theorem dksX2_isEntrySign_2 : cX2_isEntrySign.data.toList.drop 48 = dktX2_isEntrySign_2 := dk_seg dksX2_isEntrySign_1 35 rfl rfl
theorem dksX2_isEntrySign_3 : cX2_isEntrySign.data.toList.drop 70 = dktX2_isEntrySign_3 := dk_seg dksX2_isEntrySign_2 22 rfl rfl
theorem dksX2_isEntrySign_4 : cX2_isEntrySign.data.toList.drop 93 = dktX2_isEntrySign_4 := dk_seg dksX2_isEntrySign_3 23 rfl rfl
theorem dksX2_isEntrySign_5 : cX2_isEntrySign.data.toList.drop 117 = dktX2_isEntrySign_5 := dk_seg dksX2_isEntrySign_4 24 rfl rfl
theorem dX2_isEntrySign_0 : decode cX2_isEntrySign 0 = .ok (.aload_n 0, 1) := dk_42 (dk_at dksX2_isEntrySign_0 0 rfl rfl)
theorem dX2_isEntrySign_1 : decode cX2_isEntrySign 1 = .ok (.getfield 7, 3) := dk_180 0 7 (dk_at dksX2_isEntrySign_0 1 rfl rfl)
theorem dX2_isEntrySign_4 : decode cX2_isEntrySign 4 = .ok (.iload_n 1, 1) := dk_27 (dk_at dksX2_isEntrySign_0 4 rfl rfl)
theorem dX2_isEntrySign_5 : decode cX2_isEntrySign 5 = .ok (.iaload, 1) := dk_46 (dk_at dksX2_isEntrySign_0 5 rfl rfl)
theorem dX2_isEntrySign_6 : decode cX2_isEntrySign 6 = .ok (.istore_n 2, 1) := dk_61 (dk_at dksX2_isEntrySign_0 6 rfl rfl)
theorem dX2_isEntrySign_7 : decode cX2_isEntrySign 7 = .ok (.iload_n 1, 1) := dk_27 (dk_at dksX2_isEntrySign_0 7 rfl rfl)
theorem dX2_isEntrySign_8 : decode cX2_isEntrySign 8 = .ok (.iconst 5, 1) := dk_8 (dk_at dksX2_isEntrySign_0 8 rfl rfl)
theorem dX2_isEntrySign_9 : decode cX2_isEntrySign 9 = .ok (.isub, 1) := dk_100 (dk_at dksX2_isEntrySign_0 9 rfl rfl)
theorem dX2_isEntrySign_10 : decode cX2_isEntrySign 10 = .ok (.bipush 6, 2) := dk_16 6 (dk_at dksX2_isEntrySign_0 10 rfl rfl)
theorem dX2_isEntrySign_12 : decode cX2_isEntrySign 12 = .ok (.irem, 1) := dk_112 (dk_at dksX2_isEntrySign_0 12 rfl rfl)
theorem dX2_isEntrySign_13 : decode cX2_isEntrySign 13 = .ok (.tableswitch 101 0 4 #[35, 49, 61, 89, 49], 35) := by decide +kernel
theorem dX2_isEntrySign_48 : decode cX2_isEntrySign 48 = .ok (.iload_n 2, 1) := dk_28 (dk_at dksX2_isEntrySign_2 0 rfl rfl)
theorem dX2_isEntrySign_49 : decode cX2_isEntrySign 49 = .ok (.invokestatic 107, 3) := dk_184 0 107 (dk_at dksX2_isEntrySign_2 1 rfl rfl)
theorem dX2_isEntrySign_52 : decode cX2_isEntrySign 52 = .ok (.iconst (-1), 1) := dk_2 (dk_at dksX2_isEntrySign_2 4 rfl rfl)
theorem dX2_isEntrySign_53 : decode cX2_isEntrySign 53 = .ok (.if_icmp .eq 7, 3) := dk_159 0 7 (dk_at dksX2_isEntrySign_2 5 rfl rfl)
theorem dX2_isEntrySign_56 : decode cX2_isEntrySign 56 = .ok (.iconst 1, 1) := dk_4 (dk_at dksX2_isEntrySign_2 8 rfl rfl)
theorem dX2_isEntrySign_57 : decode cX2_isEntrySign 57 = .ok (.goto 4, 3) := dk_167 0 4 (dk_at dksX2_isEntrySign_2 9 rfl rfl)
theorem dX2_isEntrySign_60 : decode cX2_isEntrySign 60 = .ok (.iconst 0, 1) := dk_3 (dk_at dksX2_isEntrySign_2 12 rfl rfl)
theorem dX2_isEntrySign_61 : decode cX2_isEntrySign 61 = .ok (.ireturn, 1) := dk_172 (dk_at dksX2_isEntrySign_2 13 rfl rfl)
theorem dX2_isEntrySign_62 : decode cX2_isEntrySign 62 = .ok (.iload_n 2, 1) := dk_28 (dk_at dksX2_isEntrySign_2 14 rfl rfl)
theorem dX2_isEntrySign_63 : decode cX2_isEntrySign 63 = .ok (.i2l, 1) := dk_133 (dk_at dksX2_isEntrySign_2 15 rfl rfl)
theorem dX2_isEntrySign_64 : decode cX2_isEntrySign 64 = .ok (.ldc2_w 110, 3) := dk_20 0 110 (dk_at dksX2_isEntrySign_2 16 rfl rfl)
theorem dX2_isEntrySign_67 : decode cX2_isEntrySign 67 = .ok (.ldc2_w 112, 3) := dk_20 0 112 (dk_at dksX2_isEntrySign_2 19 rfl rfl)
theorem dX2_isEntrySign_70 : decode cX2_isEntrySign 70 = .ok (.invokestatic 94, 3) := dk_184 0 94 (dk_at dksX2_isEntrySign_3 0 rfl rfl)
theorem dX2_isEntrySign_73 : decode cX2_isEntrySign 73 = .ok (.ireturn, 1) := dk_172 (dk_at dksX2_isEntrySign_3 3 rfl rfl)
theorem dX2_isEntrySign_74 : decode cX2_isEntrySign 74 = .ok (.iload_n 2, 1) := dk_28 (dk_at dksX2_isEntrySign_3 4 rfl rfl)
theorem dX2_isEntrySign_75 : decode cX2_isEntrySign 75 = .ok (.i2l, 1) := dk_133 (dk_at dksX2_isEntrySign_3 5 rfl rfl)
theorem dX2_isEntrySign_76 : decode cX2_isEntrySign 76 = .ok (.ldc2_w 110, 3) := dk_20 0 110 (dk_at dksX2_isEntrySign_3 6 rfl rfl)
theorem dX2_isEntrySign_79 : decode cX2_isEntrySign 79 = .ok (.ldc2_w 112, 3) := dk_20 0 112 (dk_at dksX2_isEntrySign_3 9 rfl rfl)
theorem dX2_isEntrySign_82 : decode cX2_isEntrySign 82 = .ok (.invokestatic 94, 3) := dk_184 0 94 (dk_at dksX2_isEntrySign_3 12 rfl rfl)
theorem dX2_isEntrySign_85 : decode cX2_isEntrySign 85 = .ok (.ifCond .eq 15, 3) := dk_153 0 15 (dk_at dksX2_isEntrySign_3 15 rfl rfl)
theorem dX2_isEntrySign_88 : decode cX2_isEntrySign 88 = .ok (.aload_n 0, 1) := dk_42 (dk_at dksX2_isEntrySign_3 18 rfl rfl)
theorem dX2_isEntrySign_89 : decode cX2_isEntrySign 89 = .ok (.iload_n 1, 1) := dk_27 (dk_at dksX2_isEntrySign_3 19 rfl rfl)
theorem dX2_isEntrySign_90 : decode cX2_isEntrySign 90 = .ok (.invokevirtual 114, 3) := dk_182 0 114 (dk_at dksX2_isEntrySign_3 20 rfl rfl)
theorem dX2_isEntrySign_93 : decode cX2_isEntrySign 93 = .ok (.ifCond .ne 7, 3) := dk_154 0 7 (dk_at dksX2_isEntrySign_4 0 rfl rfl)
theorem dX2_isEntrySign_96 : decode cX2_isEntrySign 96 = .ok (.iconst 1, 1) := dk_4 (dk_at dksX2_isEntrySign_4 3 rfl rfl)
theorem dX2_isEntrySign_97 : decode cX2_isEntrySign 97 = .ok (.goto 4, 3) := dk_167 0 4 (dk_at dksX2_isEntrySign_4 4 rfl rfl)
theorem dX2_isEntrySign_100 : decode cX2_isEntrySign 100 = .ok (.iconst 0, 1) := dk_3 (dk_at dksX2_isEntrySign_4 7 rfl rfl)
theorem dX2_isEntrySign_101 : decode cX2_isEntrySign 101 = .ok (.ireturn, 1) := dk_172 (dk_at dksX2_isEntrySign_4 8 rfl rfl)
theorem dX2_isEntrySign_102 : decode cX2_isEntrySign 102 = .ok (.iload_n 2, 1) := dk_28 (dk_at dksX2_isEntrySign_4 9 rfl rfl)
theorem dX2_isEntrySign_103 : decode cX2_isEntrySign 103 = .ok (.bipush 61, 2) := dk_16 61 (dk_at dksX2_isEntrySign_4 10 rfl rfl)
theorem dX2_isEntrySign_105 : decode cX2_isEntrySign 105 = .ok (.if_icmp .ne 7, 3) := dk_160 0 7 (dk_at dksX2_isEntrySign_4 12 rfl rfl)
theorem dX2_isEntrySign_108 : decode cX2_isEntrySign 108 = .ok (.iconst 1, 1) := dk_4 (dk_at dksX2_isEntrySign_4 15 rfl rfl)
theorem dX2_isEntrySign_109 : decode cX2_isEntrySign 109 = .ok (.goto 4, 3) := dk_167 0 4 (dk_at dksX2_isEntrySign_4 16 rfl rfl)
theorem dX2_isEntrySign_112 : decode cX2_isEntrySign 112 = .ok (.iconst 0, 1) := dk_3 (dk_at dksX2_isEntrySign_4 19 rfl rfl)
theorem dX2_isEntrySign_113 : decode cX2_isEntrySign 113 = .ok (.ireturn, 1) := dk_172 (dk_at dksX2_isEntrySign_4 20 rfl rfl)
theorem dX2_isEntrySign_114 : decode cX2_isEntrySign 114 = .ok (.iload_n 2, 1) := dk_28 (dk_at dksX2_isEntrySign_4 21 rfl rfl)
theorem dX2_isEntrySign_115 : decode cX2_isEntrySign 115 = .ok (.bipush 44, 2) := dk_16 44 (dk_at dksX2_isEntrySign_4 22 rfl rfl)
theorem dX2_isEntrySign_117 : decode cX2_isEntrySign 117 = .ok (.if_icmp .ne 13, 3) := dk_160 0 13 (dk_at dksX2_isEntrySign_5 0 rfl rfl)
theorem dX2_isEntrySign_120 : decode cX2_isEntrySign 120 = .ok (.iload_n 1, 1) := dk_27 (dk_at dksX2_isEntrySign_5 3 rfl rfl)
theorem dX2_isEntrySign_121 : decode cX2_isEntrySign 121 = .ok (.bipush 52, 2) := dk_16 52 (dk_at dksX2_isEntrySign_5 4 rfl rfl)
theorem dX2_isEntrySign_123 : decode cX2_isEntrySign 123 = .ok (.if_icmp .ge 7, 3) := dk_162 0 7 (dk_at dksX2_isEntrySign_5 6 rfl rfl)
theorem dX2_isEntrySign_126 : decode cX2_isEntrySign 126 = .ok (.iconst 1, 1) := dk_4 (dk_at dksX2_isEntrySign_5 9 rfl rfl)
theorem dX2_isEntrySign_127 : decode cX2_isEntrySign 127 = .ok (.goto 4, 3) := dk_167 0 4 (dk_at dksX2_isEntrySign_5 10 rfl rfl)
theorem dX2_isEntrySign_130 : decode cX2_isEntrySign 130 = .ok (.iconst 0, 1) := dk_3 (dk_at dksX2_isEntrySign_5 13 rfl rfl)
theorem dX2_isEntrySign_131 : decode cX2_isEntrySign 131 = .ok (.ireturn, 1) := dk_172 (dk_at dksX2_isEntrySign_5 14 rfl rfl)
abbrev cX2_kindBy : ByteArray := prog_11_method_6_code
def yX2_kindBy : MethodName := ⟨RX2, "kindBy", "(I)I"⟩
def dkwX2_kindBy_2 : List UInt8 := [3, 172, 4, 172, 5, 172, 6, 172, 7, 172, 2, 172]
abbrev dktX2_kindBy_2 : List UInt8 := dkwX2_kindBy_2 ++ []
def dkwX2_kindBy_1 : List UInt8 := [171, 0, 0, 0, 0, 0, 61, 0, 0, 0, 5, 0, 0, 0, 99, 0, 0, 0, 55, 0, 0, 0, 102, 0, 0, 0, 57, 0, 0, 0, 108, 0, 0, 0, 53, 0, 0, 0, 110, 0, 0, 0, 51, 0, 0, 0, 115, 0, 0, 0, 59]
abbrev dktX2_kindBy_1 : List UInt8 := dkwX2_kindBy_1 ++ dktX2_kindBy_2
def dkwX2_kindBy_0 : List UInt8 := [26]
abbrev dktX2_kindBy_0 : List UInt8 := dkwX2_kindBy_0 ++ dktX2_kindBy_1
theorem dksX2_kindBy_0 : cX2_kindBy.data.toList.drop 0 = dktX2_kindBy_0 := by decide +kernel
theorem dksX2_kindBy_1 : cX2_kindBy.data.toList.drop 1 = dktX2_kindBy_1 := dk_seg dksX2_kindBy_0 1 rfl rfl
theorem dksX2_kindBy_2 : cX2_kindBy.data.toList.drop 52 = dktX2_kindBy_2 := dk_seg dksX2_kindBy_1 51 rfl rfl
theorem dX2_kindBy_0 : decode cX2_kindBy 0 = .ok (.iload_n 0, 1) := dk_26 (dk_at dksX2_kindBy_0 0 rfl rfl)
theorem dX2_kindBy_1 : decode cX2_kindBy 1 = .ok (.lookupswitch 61 #[(99, 55), (102, 57), (108, 53), (110, 51), (115, 59)], 51) := by decide +kernel
theorem dX2_kindBy_52 : decode cX2_kindBy 52 = .ok (.iconst 0, 1) := dk_3 (dk_at dksX2_kindBy_2 0 rfl rfl)
theorem dX2_kindBy_53 : decode cX2_kindBy 53 = .ok (.ireturn, 1) := dk_172 (dk_at dksX2_kindBy_2 1 rfl rfl)
theorem dX2_kindBy_54 : decode cX2_kindBy 54 = .ok (.iconst 1, 1) := dk_4 (dk_at dksX2_kindBy_2 2 rfl rfl)
theorem dX2_kindBy_55 : decode cX2_kindBy 55 = .ok (.ireturn, 1) := dk_172 (dk_at dksX2_kindBy_2 3 rfl rfl)
theorem dX2_kindBy_56 : decode cX2_kindBy 56 = .ok (.iconst 2, 1) := dk_5 (dk_at dksX2_kindBy_2 4 rfl rfl)
theorem dX2_kindBy_57 : decode cX2_kindBy 57 = .ok (.ireturn, 1) := dk_172 (dk_at dksX2_kindBy_2 5 rfl rfl)
theorem dX2_kindBy_58 : decode cX2_kindBy 58 = .ok (.iconst 3, 1) := dk_6 (dk_at dksX2_kindBy_2 6 rfl rfl)
theorem dX2_kindBy_59 : decode cX2_kindBy 59 = .ok (.ireturn, 1) := dk_172 (dk_at dksX2_kindBy_2 7 rfl rfl)
theorem dX2_kindBy_60 : decode cX2_kindBy 60 = .ok (.iconst 4, 1) := dk_7 (dk_at dksX2_kindBy_2 8 rfl rfl)
theorem dX2_kindBy_61 : decode cX2_kindBy 61 = .ok (.ireturn, 1) := dk_172 (dk_at dksX2_kindBy_2 9 rfl rfl)
theorem dX2_kindBy_62 : decode cX2_kindBy 62 = .ok (.iconst (-1), 1) := dk_2 (dk_at dksX2_kindBy_2 10 rfl rfl)
theorem dX2_kindBy_63 : decode cX2_kindBy 63 = .ok (.ireturn, 1) := dk_172 (dk_at dksX2_kindBy_2 11 rfl rfl)
abbrev cX2_isTold : ByteArray := prog_11_method_9_code
def yX2_isTold : MethodName := ⟨RX2, "isTold", "(I)Z"⟩
def dkwX2_isTold_1 : List UInt8 := [100, 182, 0, 103, 160, 0, 7, 4, 167, 0, 4, 3, 61, 132, 3, 6, 167, 255, 221, 28, 172]
abbrev dktX2_isTold_1 : List UInt8 := dkwX2_isTold_1 ++ []
def dkwX2_isTold_0 : List UInt8 := [3, 61, 16, 6, 62, 29, 4, 96, 27, 162, 0, 34, 28, 154, 0, 18, 42, 29, 182, 0, 103, 42, 27, 4]
abbrev dktX2_isTold_0 : List UInt8 := dkwX2_isTold_0 ++ dktX2_isTold_1
theorem dksX2_isTold_0 : cX2_isTold.data.toList.drop 0 = dktX2_isTold_0 := by decide +kernel
theorem dksX2_isTold_1 : cX2_isTold.data.toList.drop 24 = dktX2_isTold_1 := dk_seg dksX2_isTold_0 24 rfl rfl
theorem dX2_isTold_0 : decode cX2_isTold 0 = .ok (.iconst 0, 1) := dk_3 (dk_at dksX2_isTold_0 0 rfl rfl)
theorem dX2_isTold_1 : decode cX2_isTold 1 = .ok (.istore_n 2, 1) := dk_61 (dk_at dksX2_isTold_0 1 rfl rfl)
theorem dX2_isTold_2 : decode cX2_isTold 2 = .ok (.bipush 6, 2) := dk_16 6 (dk_at dksX2_isTold_0 2 rfl rfl)
theorem dX2_isTold_4 : decode cX2_isTold 4 = .ok (.istore_n 3, 1) := dk_62 (dk_at dksX2_isTold_0 4 rfl rfl)
theorem dX2_isTold_5 : decode cX2_isTold 5 = .ok (.iload_n 3, 1) := dk_29 (dk_at dksX2_isTold_0 5 rfl rfl)
theorem dX2_isTold_6 : decode cX2_isTold 6 = .ok (.iconst 1, 1) := dk_4 (dk_at dksX2_isTold_0 6 rfl rfl)
theorem dX2_isTold_7 : decode cX2_isTold 7 = .ok (.iadd, 1) := dk_96 (dk_at dksX2_isTold_0 7 rfl rfl)
theorem dX2_isTold_8 : decode cX2_isTold 8 = .ok (.iload_n 1, 1) := dk_27 (dk_at dksX2_isTold_0 8 rfl rfl)
theorem dX2_isTold_9 : decode cX2_isTold 9 = .ok (.if_icmp .ge 34, 3) := dk_162 0 34 (dk_at dksX2_isTold_0 9 rfl rfl)
theorem dX2_isTold_12 : decode cX2_isTold 12 = .ok (.iload_n 2, 1) := dk_28 (dk_at dksX2_isTold_0 12 rfl rfl)
theorem dX2_isTold_13 : decode cX2_isTold 13 = .ok (.ifCond .ne 18, 3) := dk_154 0 18 (dk_at dksX2_isTold_0 13 rfl rfl)
theorem dX2_isTold_16 : decode cX2_isTold 16 = .ok (.aload_n 0, 1) := dk_42 (dk_at dksX2_isTold_0 16 rfl rfl)
theorem dX2_isTold_17 : decode cX2_isTold 17 = .ok (.iload_n 3, 1) := dk_29 (dk_at dksX2_isTold_0 17 rfl rfl)
theorem dX2_isTold_18 : decode cX2_isTold 18 = .ok (.invokevirtual 103, 3) := dk_182 0 103 (dk_at dksX2_isTold_0 18 rfl rfl)
theorem dX2_isTold_21 : decode cX2_isTold 21 = .ok (.aload_n 0, 1) := dk_42 (dk_at dksX2_isTold_0 21 rfl rfl)
theorem dX2_isTold_22 : decode cX2_isTold 22 = .ok (.iload_n 1, 1) := dk_27 (dk_at dksX2_isTold_0 22 rfl rfl)
theorem dX2_isTold_23 : decode cX2_isTold 23 = .ok (.iconst 1, 1) := dk_4 (dk_at dksX2_isTold_0 23 rfl rfl)
theorem dX2_isTold_24 : decode cX2_isTold 24 = .ok (.isub, 1) := dk_100 (dk_at dksX2_isTold_1 0 rfl rfl)
theorem dX2_isTold_25 : decode cX2_isTold 25 = .ok (.invokevirtual 103, 3) := dk_182 0 103 (dk_at dksX2_isTold_1 1 rfl rfl)
theorem dX2_isTold_28 : decode cX2_isTold 28 = .ok (.if_icmp .ne 7, 3) := dk_160 0 7 (dk_at dksX2_isTold_1 4 rfl rfl)
theorem dX2_isTold_31 : decode cX2_isTold 31 = .ok (.iconst 1, 1) := dk_4 (dk_at dksX2_isTold_1 7 rfl rfl)
theorem dX2_isTold_32 : decode cX2_isTold 32 = .ok (.goto 4, 3) := dk_167 0 4 (dk_at dksX2_isTold_1 8 rfl rfl)
theorem dX2_isTold_35 : decode cX2_isTold 35 = .ok (.iconst 0, 1) := dk_3 (dk_at dksX2_isTold_1 11 rfl rfl)
theorem dX2_isTold_36 : decode cX2_isTold 36 = .ok (.istore_n 2, 1) := dk_61 (dk_at dksX2_isTold_1 12 rfl rfl)
theorem dX2_isTold_37 : decode cX2_isTold 37 = .ok (.iinc 3 6, 3) := dk_132 3 6 (dk_at dksX2_isTold_1 13 rfl rfl)
theorem dX2_isTold_40 : decode cX2_isTold 40 = .ok (.goto (-35), 3) := dk_167 255 221 (dk_at dksX2_isTold_1 16 rfl rfl)
theorem dX2_isTold_43 : decode cX2_isTold 43 = .ok (.iload_n 2, 1) := dk_28 (dk_at dksX2_isTold_1 19 rfl rfl)
theorem dX2_isTold_44 : decode cX2_isTold 44 = .ok (.ireturn, 1) := dk_172 (dk_at dksX2_isTold_1 20 rfl rfl)
abbrev cX2_keyAt : ByteArray := prog_11_method_8_code
def yX2_keyAt : MethodName := ⟨RX2, "keyAt", "(I)I"⟩
def dkwX2_keyAt_1 : List UInt8 := [172]
abbrev dktX2_keyAt_1 : List UInt8 := dkwX2_keyAt_1 ++ []
def dkwX2_keyAt_0 : List UInt8 := [16, 10, 42, 180, 0, 7, 27, 46, 16, 48, 100, 104, 42, 180, 0, 7, 27, 4, 96, 46, 96, 16, 48, 100]
abbrev dktX2_keyAt_0 : List UInt8 := dkwX2_keyAt_0 ++ dktX2_keyAt_1
theorem dksX2_keyAt_0 : cX2_keyAt.data.toList.drop 0 = dktX2_keyAt_0 := by decide +kernel
theorem dksX2_keyAt_1 : cX2_keyAt.data.toList.drop 24 = dktX2_keyAt_1 := dk_seg dksX2_keyAt_0 24 rfl rfl
theorem dX2_keyAt_0 : decode cX2_keyAt 0 = .ok (.bipush 10, 2) := dk_16 10 (dk_at dksX2_keyAt_0 0 rfl rfl)
theorem dX2_keyAt_2 : decode cX2_keyAt 2 = .ok (.aload_n 0, 1) := dk_42 (dk_at dksX2_keyAt_0 2 rfl rfl)
theorem dX2_keyAt_3 : decode cX2_keyAt 3 = .ok (.getfield 7, 3) := dk_180 0 7 (dk_at dksX2_keyAt_0 3 rfl rfl)
theorem dX2_keyAt_6 : decode cX2_keyAt 6 = .ok (.iload_n 1, 1) := dk_27 (dk_at dksX2_keyAt_0 6 rfl rfl)
theorem dX2_keyAt_7 : decode cX2_keyAt 7 = .ok (.iaload, 1) := dk_46 (dk_at dksX2_keyAt_0 7 rfl rfl)
theorem dX2_keyAt_8 : decode cX2_keyAt 8 = .ok (.bipush 48, 2) := dk_16 48 (dk_at dksX2_keyAt_0 8 rfl rfl)
theorem dX2_keyAt_10 : decode cX2_keyAt 10 = .ok (.isub, 1) := dk_100 (dk_at dksX2_keyAt_0 10 rfl rfl)
theorem dX2_keyAt_11 : decode cX2_keyAt 11 = .ok (.imul, 1) := dk_104 (dk_at dksX2_keyAt_0 11 rfl rfl)
theorem dX2_keyAt_12 : decode cX2_keyAt 12 = .ok (.aload_n 0, 1) := dk_42 (dk_at dksX2_keyAt_0 12 rfl rfl)
theorem dX2_keyAt_13 : decode cX2_keyAt 13 = .ok (.getfield 7, 3) := dk_180 0 7 (dk_at dksX2_keyAt_0 13 rfl rfl)
theorem dX2_keyAt_16 : decode cX2_keyAt 16 = .ok (.iload_n 1, 1) := dk_27 (dk_at dksX2_keyAt_0 16 rfl rfl)
theorem dX2_keyAt_17 : decode cX2_keyAt 17 = .ok (.iconst 1, 1) := dk_4 (dk_at dksX2_keyAt_0 17 rfl rfl)
theorem dX2_keyAt_18 : decode cX2_keyAt 18 = .ok (.iadd, 1) := dk_96 (dk_at dksX2_keyAt_0 18 rfl rfl)
theorem dX2_keyAt_19 : decode cX2_keyAt 19 = .ok (.iaload, 1) := dk_46 (dk_at dksX2_keyAt_0 19 rfl rfl)
theorem dX2_keyAt_20 : decode cX2_keyAt 20 = .ok (.iadd, 1) := dk_96 (dk_at dksX2_keyAt_0 20 rfl rfl)
theorem dX2_keyAt_21 : decode cX2_keyAt 21 = .ok (.bipush 48, 2) := dk_16 48 (dk_at dksX2_keyAt_0 21 rfl rfl)
theorem dX2_keyAt_23 : decode cX2_keyAt 23 = .ok (.isub, 1) := dk_100 (dk_at dksX2_keyAt_0 23 rfl rfl)
theorem dX2_keyAt_24 : decode cX2_keyAt 24 = .ok (.ireturn, 1) := dk_172 (dk_at dksX2_keyAt_1 0 rfl rfl)
abbrev cX2_shelf : ByteArray := prog_11_method_36_code
def yX2_shelf : MethodName := ⟨RX2, "shelf", "()I"⟩
def dkwX2_shelf_7 : List UInt8 := [181, 0, 98, 42, 180, 0, 28, 3, 46, 172]
abbrev dktX2_shelf_7 : List UInt8 := dkwX2_shelf_7 ++ []
def dkwX2_shelf_6 : List UInt8 := [16, 48, 100, 182, 0, 221, 132, 1, 6, 167, 255, 214, 42, 89, 180, 0, 224, 4, 96, 181, 0, 224, 42, 3]
abbrev dktX2_shelf_6 : List UInt8 := dkwX2_shelf_6 ++ dktX2_shelf_7
def dkwX2_shelf_5 : List UInt8 := [42, 180, 0, 7, 27, 46, 184, 0, 107, 42, 27, 4, 96, 182, 0, 103, 42, 180, 0, 7, 27, 7, 96, 46]
abbrev dktX2_shelf_5 : List UInt8 := dkwX2_shelf_5 ++ dktX2_shelf_6
def dkwX2_shelf_4 : List UInt8 := [181, 0, 187, 42, 3, 181, 0, 211, 42, 3, 181, 0, 218, 8, 60, 27, 42, 180, 0, 98, 162, 0, 40, 42]
abbrev dktX2_shelf_4 : List UInt8 := dkwX2_shelf_4 ++ dktX2_shelf_5
def dkwX2_shelf_3 : List UInt8 := [180, 0, 7, 6, 46, 16, 48, 100, 181, 0, 193, 42, 3, 182, 0, 214, 42, 3, 181, 0, 184, 42, 3]
abbrev dktX2_shelf_3 : List UInt8 := dkwX2_shelf_3 ++ dktX2_shelf_4
def dkwX2_shelf_2 : List UInt8 := [3, 46, 16, 48, 100, 181, 0, 138, 42, 42, 180, 0, 7, 4, 46, 16, 48, 100, 181, 0, 144, 42, 42]
abbrev dktX2_shelf_2 : List UInt8 := dkwX2_shelf_2 ++ dktX2_shelf_3
def dkwX2_shelf_1 : List UInt8 := [164, 0, 19, 42, 180, 0, 98, 8, 100, 16, 6, 112, 8, 159, 0, 6, 16, 153, 172, 42, 42, 180, 0, 7]
abbrev dktX2_shelf_1 : List UInt8 := dkwX2_shelf_1 ++ dktX2_shelf_2
def dkwX2_shelf_0 : List UInt8 := [42, 180, 0, 98, 8, 161, 0, 35, 42, 182, 0, 134, 42, 180, 0, 98, 161, 0, 24, 42, 180, 0, 98, 8]
abbrev dktX2_shelf_0 : List UInt8 := dkwX2_shelf_0 ++ dktX2_shelf_1
theorem dksX2_shelf_0 : cX2_shelf.data.toList.drop 0 = dktX2_shelf_0 := by decide +kernel
theorem dksX2_shelf_1 : cX2_shelf.data.toList.drop 24 = dktX2_shelf_1 := dk_seg dksX2_shelf_0 24 rfl rfl
theorem dksX2_shelf_2 : cX2_shelf.data.toList.drop 48 = dktX2_shelf_2 := dk_seg dksX2_shelf_1 24 rfl rfl
theorem dksX2_shelf_3 : cX2_shelf.data.toList.drop 71 = dktX2_shelf_3 := dk_seg dksX2_shelf_2 23 rfl rfl
theorem dksX2_shelf_4 : cX2_shelf.data.toList.drop 94 = dktX2_shelf_4 := dk_seg dksX2_shelf_3 23 rfl rfl
theorem dksX2_shelf_5 : cX2_shelf.data.toList.drop 118 = dktX2_shelf_5 := dk_seg dksX2_shelf_4 24 rfl rfl
theorem dksX2_shelf_6 : cX2_shelf.data.toList.drop 142 = dktX2_shelf_6 := dk_seg dksX2_shelf_5 24 rfl rfl
theorem dksX2_shelf_7 : cX2_shelf.data.toList.drop 166 = dktX2_shelf_7 := dk_seg dksX2_shelf_6 24 rfl rfl
theorem dX2_shelf_0 : decode cX2_shelf 0 = .ok (.aload_n 0, 1) := dk_42 (dk_at dksX2_shelf_0 0 rfl rfl)
theorem dX2_shelf_1 : decode cX2_shelf 1 = .ok (.getfield 98, 3) := dk_180 0 98 (dk_at dksX2_shelf_0 1 rfl rfl)
theorem dX2_shelf_4 : decode cX2_shelf 4 = .ok (.iconst 5, 1) := dk_8 (dk_at dksX2_shelf_0 4 rfl rfl)
theorem dX2_shelf_5 : decode cX2_shelf 5 = .ok (.if_icmp .lt 35, 3) := dk_161 0 35 (dk_at dksX2_shelf_0 5 rfl rfl)
theorem dX2_shelf_8 : decode cX2_shelf 8 = .ok (.aload_n 0, 1) := dk_42 (dk_at dksX2_shelf_0 8 rfl rfl)
theorem dX2_shelf_9 : decode cX2_shelf 9 = .ok (.invokevirtual 134, 3) := dk_182 0 134 (dk_at dksX2_shelf_0 9 rfl rfl)
theorem dX2_shelf_12 : decode cX2_shelf 12 = .ok (.aload_n 0, 1) := dk_42 (dk_at dksX2_shelf_0 12 rfl rfl)
theorem dX2_shelf_13 : decode cX2_shelf 13 = .ok (.getfield 98, 3) := dk_180 0 98 (dk_at dksX2_shelf_0 13 rfl rfl)
theorem dX2_shelf_16 : decode cX2_shelf 16 = .ok (.if_icmp .lt 24, 3) := dk_161 0 24 (dk_at dksX2_shelf_0 16 rfl rfl)
theorem dX2_shelf_19 : decode cX2_shelf 19 = .ok (.aload_n 0, 1) := dk_42 (dk_at dksX2_shelf_0 19 rfl rfl)
theorem dX2_shelf_20 : decode cX2_shelf 20 = .ok (.getfield 98, 3) := dk_180 0 98 (dk_at dksX2_shelf_0 20 rfl rfl)
theorem dX2_shelf_23 : decode cX2_shelf 23 = .ok (.iconst 5, 1) := dk_8 (dk_at dksX2_shelf_0 23 rfl rfl)
theorem dX2_shelf_24 : decode cX2_shelf 24 = .ok (.if_icmp .le 19, 3) := dk_164 0 19 (dk_at dksX2_shelf_1 0 rfl rfl)
theorem dX2_shelf_27 : decode cX2_shelf 27 = .ok (.aload_n 0, 1) := dk_42 (dk_at dksX2_shelf_1 3 rfl rfl)
theorem dX2_shelf_28 : decode cX2_shelf 28 = .ok (.getfield 98, 3) := dk_180 0 98 (dk_at dksX2_shelf_1 4 rfl rfl)
theorem dX2_shelf_31 : decode cX2_shelf 31 = .ok (.iconst 5, 1) := dk_8 (dk_at dksX2_shelf_1 7 rfl rfl)
theorem dX2_shelf_32 : decode cX2_shelf 32 = .ok (.isub, 1) := dk_100 (dk_at dksX2_shelf_1 8 rfl rfl)
theorem dX2_shelf_33 : decode cX2_shelf 33 = .ok (.bipush 6, 2) := dk_16 6 (dk_at dksX2_shelf_1 9 rfl rfl)
theorem dX2_shelf_35 : decode cX2_shelf 35 = .ok (.irem, 1) := dk_112 (dk_at dksX2_shelf_1 11 rfl rfl)
theorem dX2_shelf_36 : decode cX2_shelf 36 = .ok (.iconst 5, 1) := dk_8 (dk_at dksX2_shelf_1 12 rfl rfl)
theorem dX2_shelf_37 : decode cX2_shelf 37 = .ok (.if_icmp .eq 6, 3) := dk_159 0 6 (dk_at dksX2_shelf_1 13 rfl rfl)
theorem dX2_shelf_40 : decode cX2_shelf 40 = .ok (.bipush (-103), 2) := dk_16 153 (dk_at dksX2_shelf_1 16 rfl rfl)
theorem dX2_shelf_42 : decode cX2_shelf 42 = .ok (.ireturn, 1) := dk_172 (dk_at dksX2_shelf_1 18 rfl rfl)
theorem dX2_shelf_43 : decode cX2_shelf 43 = .ok (.aload_n 0, 1) := dk_42 (dk_at dksX2_shelf_1 19 rfl rfl)
theorem dX2_shelf_44 : decode cX2_shelf 44 = .ok (.aload_n 0, 1) := dk_42 (dk_at dksX2_shelf_1 20 rfl rfl)
theorem dX2_shelf_45 : decode cX2_shelf 45 = .ok (.getfield 7, 3) := dk_180 0 7 (dk_at dksX2_shelf_1 21 rfl rfl)
theorem dX2_shelf_48 : decode cX2_shelf 48 = .ok (.iconst 0, 1) := dk_3 (dk_at dksX2_shelf_2 0 rfl rfl)
theorem dX2_shelf_49 : decode cX2_shelf 49 = .ok (.iaload, 1) := dk_46 (dk_at dksX2_shelf_2 1 rfl rfl)
theorem dX2_shelf_50 : decode cX2_shelf 50 = .ok (.bipush 48, 2) := dk_16 48 (dk_at dksX2_shelf_2 2 rfl rfl)
theorem dX2_shelf_52 : decode cX2_shelf 52 = .ok (.isub, 1) := dk_100 (dk_at dksX2_shelf_2 4 rfl rfl)
theorem dX2_shelf_53 : decode cX2_shelf 53 = .ok (.putfield 138, 3) := dk_181 0 138 (dk_at dksX2_shelf_2 5 rfl rfl)
theorem dX2_shelf_56 : decode cX2_shelf 56 = .ok (.aload_n 0, 1) := dk_42 (dk_at dksX2_shelf_2 8 rfl rfl)
theorem dX2_shelf_57 : decode cX2_shelf 57 = .ok (.aload_n 0, 1) := dk_42 (dk_at dksX2_shelf_2 9 rfl rfl)
theorem dX2_shelf_58 : decode cX2_shelf 58 = .ok (.getfield 7, 3) := dk_180 0 7 (dk_at dksX2_shelf_2 10 rfl rfl)
theorem dX2_shelf_61 : decode cX2_shelf 61 = .ok (.iconst 1, 1) := dk_4 (dk_at dksX2_shelf_2 13 rfl rfl)
theorem dX2_shelf_62 : decode cX2_shelf 62 = .ok (.iaload, 1) := dk_46 (dk_at dksX2_shelf_2 14 rfl rfl)
theorem dX2_shelf_63 : decode cX2_shelf 63 = .ok (.bipush 48, 2) := dk_16 48 (dk_at dksX2_shelf_2 15 rfl rfl)
theorem dX2_shelf_65 : decode cX2_shelf 65 = .ok (.isub, 1) := dk_100 (dk_at dksX2_shelf_2 17 rfl rfl)
theorem dX2_shelf_66 : decode cX2_shelf 66 = .ok (.putfield 144, 3) := dk_181 0 144 (dk_at dksX2_shelf_2 18 rfl rfl)
theorem dX2_shelf_69 : decode cX2_shelf 69 = .ok (.aload_n 0, 1) := dk_42 (dk_at dksX2_shelf_2 21 rfl rfl)
theorem dX2_shelf_70 : decode cX2_shelf 70 = .ok (.aload_n 0, 1) := dk_42 (dk_at dksX2_shelf_2 22 rfl rfl)
theorem dX2_shelf_71 : decode cX2_shelf 71 = .ok (.getfield 7, 3) := dk_180 0 7 (dk_at dksX2_shelf_3 0 rfl rfl)
theorem dX2_shelf_74 : decode cX2_shelf 74 = .ok (.iconst 3, 1) := dk_6 (dk_at dksX2_shelf_3 3 rfl rfl)
theorem dX2_shelf_75 : decode cX2_shelf 75 = .ok (.iaload, 1) := dk_46 (dk_at dksX2_shelf_3 4 rfl rfl)
theorem dX2_shelf_76 : decode cX2_shelf 76 = .ok (.bipush 48, 2) := dk_16 48 (dk_at dksX2_shelf_3 5 rfl rfl)
theorem dX2_shelf_78 : decode cX2_shelf 78 = .ok (.isub, 1) := dk_100 (dk_at dksX2_shelf_3 7 rfl rfl)
theorem dX2_shelf_79 : decode cX2_shelf 79 = .ok (.putfield 193, 3) := dk_181 0 193 (dk_at dksX2_shelf_3 8 rfl rfl)
theorem dX2_shelf_82 : decode cX2_shelf 82 = .ok (.aload_n 0, 1) := dk_42 (dk_at dksX2_shelf_3 11 rfl rfl)
theorem dX2_shelf_83 : decode cX2_shelf 83 = .ok (.iconst 0, 1) := dk_3 (dk_at dksX2_shelf_3 12 rfl rfl)
theorem dX2_shelf_84 : decode cX2_shelf 84 = .ok (.invokevirtual 214, 3) := dk_182 0 214 (dk_at dksX2_shelf_3 13 rfl rfl)
theorem dX2_shelf_87 : decode cX2_shelf 87 = .ok (.aload_n 0, 1) := dk_42 (dk_at dksX2_shelf_3 16 rfl rfl)
theorem dX2_shelf_88 : decode cX2_shelf 88 = .ok (.iconst 0, 1) := dk_3 (dk_at dksX2_shelf_3 17 rfl rfl)
theorem dX2_shelf_89 : decode cX2_shelf 89 = .ok (.putfield 184, 3) := dk_181 0 184 (dk_at dksX2_shelf_3 18 rfl rfl)
theorem dX2_shelf_92 : decode cX2_shelf 92 = .ok (.aload_n 0, 1) := dk_42 (dk_at dksX2_shelf_3 21 rfl rfl)
theorem dX2_shelf_93 : decode cX2_shelf 93 = .ok (.iconst 0, 1) := dk_3 (dk_at dksX2_shelf_3 22 rfl rfl)
theorem dX2_shelf_94 : decode cX2_shelf 94 = .ok (.putfield 187, 3) := dk_181 0 187 (dk_at dksX2_shelf_4 0 rfl rfl)
theorem dX2_shelf_97 : decode cX2_shelf 97 = .ok (.aload_n 0, 1) := dk_42 (dk_at dksX2_shelf_4 3 rfl rfl)
theorem dX2_shelf_98 : decode cX2_shelf 98 = .ok (.iconst 0, 1) := dk_3 (dk_at dksX2_shelf_4 4 rfl rfl)
theorem dX2_shelf_99 : decode cX2_shelf 99 = .ok (.putfield 211, 3) := dk_181 0 211 (dk_at dksX2_shelf_4 5 rfl rfl)
theorem dX2_shelf_102 : decode cX2_shelf 102 = .ok (.aload_n 0, 1) := dk_42 (dk_at dksX2_shelf_4 8 rfl rfl)
theorem dX2_shelf_103 : decode cX2_shelf 103 = .ok (.iconst 0, 1) := dk_3 (dk_at dksX2_shelf_4 9 rfl rfl)
theorem dX2_shelf_104 : decode cX2_shelf 104 = .ok (.putfield 218, 3) := dk_181 0 218 (dk_at dksX2_shelf_4 10 rfl rfl)
theorem dX2_shelf_107 : decode cX2_shelf 107 = .ok (.iconst 5, 1) := dk_8 (dk_at dksX2_shelf_4 13 rfl rfl)
theorem dX2_shelf_108 : decode cX2_shelf 108 = .ok (.istore_n 1, 1) := dk_60 (dk_at dksX2_shelf_4 14 rfl rfl)
theorem dX2_shelf_109 : decode cX2_shelf 109 = .ok (.iload_n 1, 1) := dk_27 (dk_at dksX2_shelf_4 15 rfl rfl)
theorem dX2_shelf_110 : decode cX2_shelf 110 = .ok (.aload_n 0, 1) := dk_42 (dk_at dksX2_shelf_4 16 rfl rfl)
theorem dX2_shelf_111 : decode cX2_shelf 111 = .ok (.getfield 98, 3) := dk_180 0 98 (dk_at dksX2_shelf_4 17 rfl rfl)
theorem dX2_shelf_114 : decode cX2_shelf 114 = .ok (.if_icmp .ge 40, 3) := dk_162 0 40 (dk_at dksX2_shelf_4 20 rfl rfl)
theorem dX2_shelf_117 : decode cX2_shelf 117 = .ok (.aload_n 0, 1) := dk_42 (dk_at dksX2_shelf_4 23 rfl rfl)
theorem dX2_shelf_118 : decode cX2_shelf 118 = .ok (.aload_n 0, 1) := dk_42 (dk_at dksX2_shelf_5 0 rfl rfl)
theorem dX2_shelf_119 : decode cX2_shelf 119 = .ok (.getfield 7, 3) := dk_180 0 7 (dk_at dksX2_shelf_5 1 rfl rfl)
theorem dX2_shelf_122 : decode cX2_shelf 122 = .ok (.iload_n 1, 1) := dk_27 (dk_at dksX2_shelf_5 4 rfl rfl)
theorem dX2_shelf_123 : decode cX2_shelf 123 = .ok (.iaload, 1) := dk_46 (dk_at dksX2_shelf_5 5 rfl rfl)
theorem dX2_shelf_124 : decode cX2_shelf 124 = .ok (.invokestatic 107, 3) := dk_184 0 107 (dk_at dksX2_shelf_5 6 rfl rfl)
theorem dX2_shelf_127 : decode cX2_shelf 127 = .ok (.aload_n 0, 1) := dk_42 (dk_at dksX2_shelf_5 9 rfl rfl)
theorem dX2_shelf_128 : decode cX2_shelf 128 = .ok (.iload_n 1, 1) := dk_27 (dk_at dksX2_shelf_5 10 rfl rfl)
theorem dX2_shelf_129 : decode cX2_shelf 129 = .ok (.iconst 1, 1) := dk_4 (dk_at dksX2_shelf_5 11 rfl rfl)
theorem dX2_shelf_130 : decode cX2_shelf 130 = .ok (.iadd, 1) := dk_96 (dk_at dksX2_shelf_5 12 rfl rfl)
theorem dX2_shelf_131 : decode cX2_shelf 131 = .ok (.invokevirtual 103, 3) := dk_182 0 103 (dk_at dksX2_shelf_5 13 rfl rfl)
theorem dX2_shelf_134 : decode cX2_shelf 134 = .ok (.aload_n 0, 1) := dk_42 (dk_at dksX2_shelf_5 16 rfl rfl)
theorem dX2_shelf_135 : decode cX2_shelf 135 = .ok (.getfield 7, 3) := dk_180 0 7 (dk_at dksX2_shelf_5 17 rfl rfl)
theorem dX2_shelf_138 : decode cX2_shelf 138 = .ok (.iload_n 1, 1) := dk_27 (dk_at dksX2_shelf_5 20 rfl rfl)
theorem dX2_shelf_139 : decode cX2_shelf 139 = .ok (.iconst 4, 1) := dk_7 (dk_at dksX2_shelf_5 21 rfl rfl)
theorem dX2_shelf_140 : decode cX2_shelf 140 = .ok (.iadd, 1) := dk_96 (dk_at dksX2_shelf_5 22 rfl rfl)
theorem dX2_shelf_141 : decode cX2_shelf 141 = .ok (.iaload, 1) := dk_46 (dk_at dksX2_shelf_5 23 rfl rfl)
theorem dX2_shelf_142 : decode cX2_shelf 142 = .ok (.bipush 48, 2) := dk_16 48 (dk_at dksX2_shelf_6 0 rfl rfl)
theorem dX2_shelf_144 : decode cX2_shelf 144 = .ok (.isub, 1) := dk_100 (dk_at dksX2_shelf_6 2 rfl rfl)
theorem dX2_shelf_145 : decode cX2_shelf 145 = .ok (.invokevirtual 221, 3) := dk_182 0 221 (dk_at dksX2_shelf_6 3 rfl rfl)
theorem dX2_shelf_148 : decode cX2_shelf 148 = .ok (.iinc 1 6, 3) := dk_132 1 6 (dk_at dksX2_shelf_6 6 rfl rfl)
theorem dX2_shelf_151 : decode cX2_shelf 151 = .ok (.goto (-42), 3) := dk_167 255 214 (dk_at dksX2_shelf_6 9 rfl rfl)
theorem dX2_shelf_154 : decode cX2_shelf 154 = .ok (.aload_n 0, 1) := dk_42 (dk_at dksX2_shelf_6 12 rfl rfl)
theorem dX2_shelf_155 : decode cX2_shelf 155 = .ok (.dup, 1) := dk_89 (dk_at dksX2_shelf_6 13 rfl rfl)
theorem dX2_shelf_156 : decode cX2_shelf 156 = .ok (.getfield 224, 3) := dk_180 0 224 (dk_at dksX2_shelf_6 14 rfl rfl)
theorem dX2_shelf_159 : decode cX2_shelf 159 = .ok (.iconst 1, 1) := dk_4 (dk_at dksX2_shelf_6 17 rfl rfl)
theorem dX2_shelf_160 : decode cX2_shelf 160 = .ok (.iadd, 1) := dk_96 (dk_at dksX2_shelf_6 18 rfl rfl)
theorem dX2_shelf_161 : decode cX2_shelf 161 = .ok (.putfield 224, 3) := dk_181 0 224 (dk_at dksX2_shelf_6 19 rfl rfl)
theorem dX2_shelf_164 : decode cX2_shelf 164 = .ok (.aload_n 0, 1) := dk_42 (dk_at dksX2_shelf_6 22 rfl rfl)
theorem dX2_shelf_165 : decode cX2_shelf 165 = .ok (.iconst 0, 1) := dk_3 (dk_at dksX2_shelf_6 23 rfl rfl)
theorem dX2_shelf_166 : decode cX2_shelf 166 = .ok (.putfield 98, 3) := dk_181 0 98 (dk_at dksX2_shelf_7 0 rfl rfl)
theorem dX2_shelf_169 : decode cX2_shelf 169 = .ok (.aload_n 0, 1) := dk_42 (dk_at dksX2_shelf_7 3 rfl rfl)
theorem dX2_shelf_170 : decode cX2_shelf 170 = .ok (.getfield 28, 3) := dk_180 0 28 (dk_at dksX2_shelf_7 4 rfl rfl)
theorem dX2_shelf_173 : decode cX2_shelf 173 = .ok (.iconst 0, 1) := dk_3 (dk_at dksX2_shelf_7 7 rfl rfl)
theorem dX2_shelf_174 : decode cX2_shelf 174 = .ok (.iaload, 1) := dk_46 (dk_at dksX2_shelf_7 8 rfl rfl)
theorem dX2_shelf_175 : decode cX2_shelf 175 = .ok (.ireturn, 1) := dk_172 (dk_at dksX2_shelf_7 9 rfl rfl)
abbrev cX2_empty : ByteArray := prog_11_method_16_code
def yX2_empty : MethodName := ⟨RX2, "empty", "(I)V"⟩
def dkwX2_empty_2 : List UInt8 := [42, 180, 0, 34, 27, 3, 79, 42, 180, 0, 37, 27, 3, 79, 177]
abbrev dktX2_empty_2 : List UInt8 := dkwX2_empty_2 ++ []
def dkwX2_empty_1 : List UInt8 := [167, 255, 235, 42, 180, 0, 25, 27, 2, 79, 42, 180, 0, 28, 27, 3, 79, 42, 180, 0, 31, 27, 3, 79]
abbrev dktX2_empty_1 : List UInt8 := dkwX2_empty_1 ++ dktX2_empty_2
def dkwX2_empty_0 : List UInt8 := [3, 61, 28, 16, 100, 162, 0, 21, 42, 180, 0, 22, 16, 100, 27, 104, 28, 96, 3, 79, 132, 2, 1]
abbrev dktX2_empty_0 : List UInt8 := dkwX2_empty_0 ++ dktX2_empty_1
theorem dksX2_empty_0 : cX2_empty.data.toList.drop 0 = dktX2_empty_0 := by decide +kernel
theorem dksX2_empty_1 : cX2_empty.data.toList.drop 23 = dktX2_empty_1 := dk_seg dksX2_empty_0 23 rfl rfl
theorem dksX2_empty_2 : cX2_empty.data.toList.drop 47 = dktX2_empty_2 := dk_seg dksX2_empty_1 24 rfl rfl
theorem dX2_empty_0 : decode cX2_empty 0 = .ok (.iconst 0, 1) := dk_3 (dk_at dksX2_empty_0 0 rfl rfl)
theorem dX2_empty_1 : decode cX2_empty 1 = .ok (.istore_n 2, 1) := dk_61 (dk_at dksX2_empty_0 1 rfl rfl)
theorem dX2_empty_2 : decode cX2_empty 2 = .ok (.iload_n 2, 1) := dk_28 (dk_at dksX2_empty_0 2 rfl rfl)
theorem dX2_empty_3 : decode cX2_empty 3 = .ok (.bipush 100, 2) := dk_16 100 (dk_at dksX2_empty_0 3 rfl rfl)
theorem dX2_empty_5 : decode cX2_empty 5 = .ok (.if_icmp .ge 21, 3) := dk_162 0 21 (dk_at dksX2_empty_0 5 rfl rfl)
theorem dX2_empty_8 : decode cX2_empty 8 = .ok (.aload_n 0, 1) := dk_42 (dk_at dksX2_empty_0 8 rfl rfl)
theorem dX2_empty_9 : decode cX2_empty 9 = .ok (.getfield 22, 3) := dk_180 0 22 (dk_at dksX2_empty_0 9 rfl rfl)
theorem dX2_empty_12 : decode cX2_empty 12 = .ok (.bipush 100, 2) := dk_16 100 (dk_at dksX2_empty_0 12 rfl rfl)
theorem dX2_empty_14 : decode cX2_empty 14 = .ok (.iload_n 1, 1) := dk_27 (dk_at dksX2_empty_0 14 rfl rfl)
theorem dX2_empty_15 : decode cX2_empty 15 = .ok (.imul, 1) := dk_104 (dk_at dksX2_empty_0 15 rfl rfl)
theorem dX2_empty_16 : decode cX2_empty 16 = .ok (.iload_n 2, 1) := dk_28 (dk_at dksX2_empty_0 16 rfl rfl)
theorem dX2_empty_17 : decode cX2_empty 17 = .ok (.iadd, 1) := dk_96 (dk_at dksX2_empty_0 17 rfl rfl)
theorem dX2_empty_18 : decode cX2_empty 18 = .ok (.iconst 0, 1) := dk_3 (dk_at dksX2_empty_0 18 rfl rfl)
theorem dX2_empty_19 : decode cX2_empty 19 = .ok (.iastore, 1) := dk_79 (dk_at dksX2_empty_0 19 rfl rfl)
theorem dX2_empty_20 : decode cX2_empty 20 = .ok (.iinc 2 1, 3) := dk_132 2 1 (dk_at dksX2_empty_0 20 rfl rfl)
theorem dX2_empty_23 : decode cX2_empty 23 = .ok (.goto (-21), 3) := dk_167 255 235 (dk_at dksX2_empty_1 0 rfl rfl)
theorem dX2_empty_26 : decode cX2_empty 26 = .ok (.aload_n 0, 1) := dk_42 (dk_at dksX2_empty_1 3 rfl rfl)
theorem dX2_empty_27 : decode cX2_empty 27 = .ok (.getfield 25, 3) := dk_180 0 25 (dk_at dksX2_empty_1 4 rfl rfl)
theorem dX2_empty_30 : decode cX2_empty 30 = .ok (.iload_n 1, 1) := dk_27 (dk_at dksX2_empty_1 7 rfl rfl)
theorem dX2_empty_31 : decode cX2_empty 31 = .ok (.iconst (-1), 1) := dk_2 (dk_at dksX2_empty_1 8 rfl rfl)
theorem dX2_empty_32 : decode cX2_empty 32 = .ok (.iastore, 1) := dk_79 (dk_at dksX2_empty_1 9 rfl rfl)
theorem dX2_empty_33 : decode cX2_empty 33 = .ok (.aload_n 0, 1) := dk_42 (dk_at dksX2_empty_1 10 rfl rfl)
theorem dX2_empty_34 : decode cX2_empty 34 = .ok (.getfield 28, 3) := dk_180 0 28 (dk_at dksX2_empty_1 11 rfl rfl)
theorem dX2_empty_37 : decode cX2_empty 37 = .ok (.iload_n 1, 1) := dk_27 (dk_at dksX2_empty_1 14 rfl rfl)
theorem dX2_empty_38 : decode cX2_empty 38 = .ok (.iconst 0, 1) := dk_3 (dk_at dksX2_empty_1 15 rfl rfl)
theorem dX2_empty_39 : decode cX2_empty 39 = .ok (.iastore, 1) := dk_79 (dk_at dksX2_empty_1 16 rfl rfl)
theorem dX2_empty_40 : decode cX2_empty 40 = .ok (.aload_n 0, 1) := dk_42 (dk_at dksX2_empty_1 17 rfl rfl)
theorem dX2_empty_41 : decode cX2_empty 41 = .ok (.getfield 31, 3) := dk_180 0 31 (dk_at dksX2_empty_1 18 rfl rfl)
theorem dX2_empty_44 : decode cX2_empty 44 = .ok (.iload_n 1, 1) := dk_27 (dk_at dksX2_empty_1 21 rfl rfl)
theorem dX2_empty_45 : decode cX2_empty 45 = .ok (.iconst 0, 1) := dk_3 (dk_at dksX2_empty_1 22 rfl rfl)
theorem dX2_empty_46 : decode cX2_empty 46 = .ok (.iastore, 1) := dk_79 (dk_at dksX2_empty_1 23 rfl rfl)
theorem dX2_empty_47 : decode cX2_empty 47 = .ok (.aload_n 0, 1) := dk_42 (dk_at dksX2_empty_2 0 rfl rfl)
theorem dX2_empty_48 : decode cX2_empty 48 = .ok (.getfield 34, 3) := dk_180 0 34 (dk_at dksX2_empty_2 1 rfl rfl)
theorem dX2_empty_51 : decode cX2_empty 51 = .ok (.iload_n 1, 1) := dk_27 (dk_at dksX2_empty_2 4 rfl rfl)
theorem dX2_empty_52 : decode cX2_empty 52 = .ok (.iconst 0, 1) := dk_3 (dk_at dksX2_empty_2 5 rfl rfl)
theorem dX2_empty_53 : decode cX2_empty 53 = .ok (.iastore, 1) := dk_79 (dk_at dksX2_empty_2 6 rfl rfl)
theorem dX2_empty_54 : decode cX2_empty 54 = .ok (.aload_n 0, 1) := dk_42 (dk_at dksX2_empty_2 7 rfl rfl)
theorem dX2_empty_55 : decode cX2_empty 55 = .ok (.getfield 37, 3) := dk_180 0 37 (dk_at dksX2_empty_2 8 rfl rfl)
theorem dX2_empty_58 : decode cX2_empty 58 = .ok (.iload_n 1, 1) := dk_27 (dk_at dksX2_empty_2 11 rfl rfl)
theorem dX2_empty_59 : decode cX2_empty 59 = .ok (.iconst 0, 1) := dk_3 (dk_at dksX2_empty_2 12 rfl rfl)
theorem dX2_empty_60 : decode cX2_empty 60 = .ok (.iastore, 1) := dk_79 (dk_at dksX2_empty_2 13 rfl rfl)
theorem dX2_empty_61 : decode cX2_empty 61 = .ok (.return_, 1) := dk_177 (dk_at dksX2_empty_2 14 rfl rfl)
abbrev cX2_putNew : ByteArray := prog_11_method_37_code
def yX2_putNew : MethodName := ⟨RX2, "putNew", "(III)V"⟩
def dkwX2_putNew_1 : List UInt8 := [182, 0, 230, 177]
abbrev dktX2_putNew_1 : List UInt8 := dkwX2_putNew_1 ++ []
def dkwX2_putNew_0 : List UInt8 := [42, 180, 0, 40, 28, 27, 79, 42, 180, 0, 43, 28, 29, 79, 42, 3, 28, 182, 0, 227, 42, 28]
abbrev dktX2_putNew_0 : List UInt8 := dkwX2_putNew_0 ++ dktX2_putNew_1
theorem dksX2_putNew_0 : cX2_putNew.data.toList.drop 0 = dktX2_putNew_0 := by decide +kernel
theorem dksX2_putNew_1 : cX2_putNew.data.toList.drop 22 = dktX2_putNew_1 := dk_seg dksX2_putNew_0 22 rfl rfl
theorem dX2_putNew_0 : decode cX2_putNew 0 = .ok (.aload_n 0, 1) := dk_42 (dk_at dksX2_putNew_0 0 rfl rfl)
theorem dX2_putNew_1 : decode cX2_putNew 1 = .ok (.getfield 40, 3) := dk_180 0 40 (dk_at dksX2_putNew_0 1 rfl rfl)
theorem dX2_putNew_4 : decode cX2_putNew 4 = .ok (.iload_n 2, 1) := dk_28 (dk_at dksX2_putNew_0 4 rfl rfl)
theorem dX2_putNew_5 : decode cX2_putNew 5 = .ok (.iload_n 1, 1) := dk_27 (dk_at dksX2_putNew_0 5 rfl rfl)
theorem dX2_putNew_6 : decode cX2_putNew 6 = .ok (.iastore, 1) := dk_79 (dk_at dksX2_putNew_0 6 rfl rfl)
theorem dX2_putNew_7 : decode cX2_putNew 7 = .ok (.aload_n 0, 1) := dk_42 (dk_at dksX2_putNew_0 7 rfl rfl)
theorem dX2_putNew_8 : decode cX2_putNew 8 = .ok (.getfield 43, 3) := dk_180 0 43 (dk_at dksX2_putNew_0 8 rfl rfl)
theorem dX2_putNew_11 : decode cX2_putNew 11 = .ok (.iload_n 2, 1) := dk_28 (dk_at dksX2_putNew_0 11 rfl rfl)
theorem dX2_putNew_12 : decode cX2_putNew 12 = .ok (.iload_n 3, 1) := dk_29 (dk_at dksX2_putNew_0 12 rfl rfl)
theorem dX2_putNew_13 : decode cX2_putNew 13 = .ok (.iastore, 1) := dk_79 (dk_at dksX2_putNew_0 13 rfl rfl)
theorem dX2_putNew_14 : decode cX2_putNew 14 = .ok (.aload_n 0, 1) := dk_42 (dk_at dksX2_putNew_0 14 rfl rfl)
theorem dX2_putNew_15 : decode cX2_putNew 15 = .ok (.iconst 0, 1) := dk_3 (dk_at dksX2_putNew_0 15 rfl rfl)
theorem dX2_putNew_16 : decode cX2_putNew 16 = .ok (.iload_n 2, 1) := dk_28 (dk_at dksX2_putNew_0 16 rfl rfl)
theorem dX2_putNew_17 : decode cX2_putNew 17 = .ok (.invokevirtual 227, 3) := dk_182 0 227 (dk_at dksX2_putNew_0 17 rfl rfl)
theorem dX2_putNew_20 : decode cX2_putNew 20 = .ok (.aload_n 0, 1) := dk_42 (dk_at dksX2_putNew_0 20 rfl rfl)
theorem dX2_putNew_21 : decode cX2_putNew 21 = .ok (.iload_n 2, 1) := dk_28 (dk_at dksX2_putNew_0 21 rfl rfl)
theorem dX2_putNew_22 : decode cX2_putNew 22 = .ok (.invokevirtual 230, 3) := dk_182 0 230 (dk_at dksX2_putNew_1 0 rfl rfl)
theorem dX2_putNew_25 : decode cX2_putNew 25 = .ok (.return_, 1) := dk_177 (dk_at dksX2_putNew_1 3 rfl rfl)
abbrev cX2_enter : ByteArray := prog_11_method_30_code
def yX2_enter : MethodName := ⟨RX2, "enter", "(II)V"⟩
def dkwX2_enter_4 : List UInt8 := [177]
abbrev dktX2_enter_4 : List UInt8 := dkwX2_enter_4 ++ []
def dkwX2_enter_3 : List UInt8 := [27, 104, 21, 4, 96, 46, 54, 4, 167, 255, 226, 21, 4, 2, 159, 0, 10, 42, 27, 21, 4, 182, 0, 202]
abbrev dktX2_enter_3 : List UInt8 := dkwX2_enter_3 ++ dktX2_enter_4
def dkwX2_enter_2 : List UInt8 := [54, 4, 21, 4, 2, 159, 0, 30, 42, 27, 21, 4, 182, 0, 199, 154, 0, 20, 42, 180, 0, 19, 16, 100]
abbrev dktX2_enter_2 : List UInt8 := dkwX2_enter_2 ++ dktX2_enter_3
def dkwX2_enter_1 : List UInt8 := [29, 4, 96, 104, 182, 0, 181, 29, 42, 27, 42, 180, 0, 28, 27, 46, 182, 0, 196, 164, 0, 52, 28]
abbrev dktX2_enter_1 : List UInt8 := dkwX2_enter_1 ++ dktX2_enter_2
def dkwX2_enter_0 : List UInt8 := [42, 27, 28, 182, 0, 190, 42, 3, 181, 0, 171, 42, 27, 28, 182, 0, 154, 62, 42, 27, 42, 180, 0, 193]
abbrev dktX2_enter_0 : List UInt8 := dkwX2_enter_0 ++ dktX2_enter_1
theorem dksX2_enter_0 : cX2_enter.data.toList.drop 0 = dktX2_enter_0 := by decide +kernel
theorem dksX2_enter_1 : cX2_enter.data.toList.drop 24 = dktX2_enter_1 := dk_seg dksX2_enter_0 24 rfl rfl
theorem dksX2_enter_2 : cX2_enter.data.toList.drop 47 = dktX2_enter_2 := dk_seg dksX2_enter_1 23 rfl rfl
theorem dksX2_enter_3 : cX2_enter.data.toList.drop 71 = dktX2_enter_3 := dk_seg dksX2_enter_2 24 rfl rfl
theorem dksX2_enter_4 : cX2_enter.data.toList.drop 95 = dktX2_enter_4 := dk_seg dksX2_enter_3 24 rfl rfl
theorem dX2_enter_0 : decode cX2_enter 0 = .ok (.aload_n 0, 1) := dk_42 (dk_at dksX2_enter_0 0 rfl rfl)
theorem dX2_enter_1 : decode cX2_enter 1 = .ok (.iload_n 1, 1) := dk_27 (dk_at dksX2_enter_0 1 rfl rfl)
theorem dX2_enter_2 : decode cX2_enter 2 = .ok (.iload_n 2, 1) := dk_28 (dk_at dksX2_enter_0 2 rfl rfl)
theorem dX2_enter_3 : decode cX2_enter 3 = .ok (.invokevirtual 190, 3) := dk_182 0 190 (dk_at dksX2_enter_0 3 rfl rfl)
theorem dX2_enter_6 : decode cX2_enter 6 = .ok (.aload_n 0, 1) := dk_42 (dk_at dksX2_enter_0 6 rfl rfl)
theorem dX2_enter_7 : decode cX2_enter 7 = .ok (.iconst 0, 1) := dk_3 (dk_at dksX2_enter_0 7 rfl rfl)
theorem dX2_enter_8 : decode cX2_enter 8 = .ok (.putfield 171, 3) := dk_181 0 171 (dk_at dksX2_enter_0 8 rfl rfl)
theorem dX2_enter_11 : decode cX2_enter 11 = .ok (.aload_n 0, 1) := dk_42 (dk_at dksX2_enter_0 11 rfl rfl)
theorem dX2_enter_12 : decode cX2_enter 12 = .ok (.iload_n 1, 1) := dk_27 (dk_at dksX2_enter_0 12 rfl rfl)
theorem dX2_enter_13 : decode cX2_enter 13 = .ok (.iload_n 2, 1) := dk_28 (dk_at dksX2_enter_0 13 rfl rfl)
theorem dX2_enter_14 : decode cX2_enter 14 = .ok (.invokevirtual 154, 3) := dk_182 0 154 (dk_at dksX2_enter_0 14 rfl rfl)
theorem dX2_enter_17 : decode cX2_enter 17 = .ok (.istore_n 3, 1) := dk_62 (dk_at dksX2_enter_0 17 rfl rfl)
theorem dX2_enter_18 : decode cX2_enter 18 = .ok (.aload_n 0, 1) := dk_42 (dk_at dksX2_enter_0 18 rfl rfl)
theorem dX2_enter_19 : decode cX2_enter 19 = .ok (.iload_n 1, 1) := dk_27 (dk_at dksX2_enter_0 19 rfl rfl)
theorem dX2_enter_20 : decode cX2_enter 20 = .ok (.aload_n 0, 1) := dk_42 (dk_at dksX2_enter_0 20 rfl rfl)
theorem dX2_enter_21 : decode cX2_enter 21 = .ok (.getfield 193, 3) := dk_180 0 193 (dk_at dksX2_enter_0 21 rfl rfl)
theorem dX2_enter_24 : decode cX2_enter 24 = .ok (.iload_n 3, 1) := dk_29 (dk_at dksX2_enter_1 0 rfl rfl)
theorem dX2_enter_25 : decode cX2_enter 25 = .ok (.iconst 1, 1) := dk_4 (dk_at dksX2_enter_1 1 rfl rfl)
theorem dX2_enter_26 : decode cX2_enter 26 = .ok (.iadd, 1) := dk_96 (dk_at dksX2_enter_1 2 rfl rfl)
theorem dX2_enter_27 : decode cX2_enter 27 = .ok (.imul, 1) := dk_104 (dk_at dksX2_enter_1 3 rfl rfl)
theorem dX2_enter_28 : decode cX2_enter 28 = .ok (.invokevirtual 181, 3) := dk_182 0 181 (dk_at dksX2_enter_1 4 rfl rfl)
theorem dX2_enter_31 : decode cX2_enter 31 = .ok (.iload_n 3, 1) := dk_29 (dk_at dksX2_enter_1 7 rfl rfl)
theorem dX2_enter_32 : decode cX2_enter 32 = .ok (.aload_n 0, 1) := dk_42 (dk_at dksX2_enter_1 8 rfl rfl)
theorem dX2_enter_33 : decode cX2_enter 33 = .ok (.iload_n 1, 1) := dk_27 (dk_at dksX2_enter_1 9 rfl rfl)
theorem dX2_enter_34 : decode cX2_enter 34 = .ok (.aload_n 0, 1) := dk_42 (dk_at dksX2_enter_1 10 rfl rfl)
theorem dX2_enter_35 : decode cX2_enter 35 = .ok (.getfield 28, 3) := dk_180 0 28 (dk_at dksX2_enter_1 11 rfl rfl)
theorem dX2_enter_38 : decode cX2_enter 38 = .ok (.iload_n 1, 1) := dk_27 (dk_at dksX2_enter_1 14 rfl rfl)
theorem dX2_enter_39 : decode cX2_enter 39 = .ok (.iaload, 1) := dk_46 (dk_at dksX2_enter_1 15 rfl rfl)
theorem dX2_enter_40 : decode cX2_enter 40 = .ok (.invokevirtual 196, 3) := dk_182 0 196 (dk_at dksX2_enter_1 16 rfl rfl)
theorem dX2_enter_43 : decode cX2_enter 43 = .ok (.if_icmp .le 52, 3) := dk_164 0 52 (dk_at dksX2_enter_1 19 rfl rfl)
theorem dX2_enter_46 : decode cX2_enter 46 = .ok (.iload_n 2, 1) := dk_28 (dk_at dksX2_enter_1 22 rfl rfl)
theorem dX2_enter_47 : decode cX2_enter 47 = .ok (.istore 4, 2) := dk_54 4 (dk_at dksX2_enter_2 0 rfl rfl)
theorem dX2_enter_49 : decode cX2_enter 49 = .ok (.iload 4, 2) := dk_21 4 (dk_at dksX2_enter_2 2 rfl rfl)
theorem dX2_enter_51 : decode cX2_enter 51 = .ok (.iconst (-1), 1) := dk_2 (dk_at dksX2_enter_2 4 rfl rfl)
theorem dX2_enter_52 : decode cX2_enter 52 = .ok (.if_icmp .eq 30, 3) := dk_159 0 30 (dk_at dksX2_enter_2 5 rfl rfl)
theorem dX2_enter_55 : decode cX2_enter 55 = .ok (.aload_n 0, 1) := dk_42 (dk_at dksX2_enter_2 8 rfl rfl)
theorem dX2_enter_56 : decode cX2_enter 56 = .ok (.iload_n 1, 1) := dk_27 (dk_at dksX2_enter_2 9 rfl rfl)
theorem dX2_enter_57 : decode cX2_enter 57 = .ok (.iload 4, 2) := dk_21 4 (dk_at dksX2_enter_2 10 rfl rfl)
theorem dX2_enter_59 : decode cX2_enter 59 = .ok (.invokevirtual 199, 3) := dk_182 0 199 (dk_at dksX2_enter_2 12 rfl rfl)
theorem dX2_enter_62 : decode cX2_enter 62 = .ok (.ifCond .ne 20, 3) := dk_154 0 20 (dk_at dksX2_enter_2 15 rfl rfl)
theorem dX2_enter_65 : decode cX2_enter 65 = .ok (.aload_n 0, 1) := dk_42 (dk_at dksX2_enter_2 18 rfl rfl)
theorem dX2_enter_66 : decode cX2_enter 66 = .ok (.getfield 19, 3) := dk_180 0 19 (dk_at dksX2_enter_2 19 rfl rfl)
theorem dX2_enter_69 : decode cX2_enter 69 = .ok (.bipush 100, 2) := dk_16 100 (dk_at dksX2_enter_2 22 rfl rfl)
theorem dX2_enter_71 : decode cX2_enter 71 = .ok (.iload_n 1, 1) := dk_27 (dk_at dksX2_enter_3 0 rfl rfl)
theorem dX2_enter_72 : decode cX2_enter 72 = .ok (.imul, 1) := dk_104 (dk_at dksX2_enter_3 1 rfl rfl)
theorem dX2_enter_73 : decode cX2_enter 73 = .ok (.iload 4, 2) := dk_21 4 (dk_at dksX2_enter_3 2 rfl rfl)
theorem dX2_enter_75 : decode cX2_enter 75 = .ok (.iadd, 1) := dk_96 (dk_at dksX2_enter_3 4 rfl rfl)
theorem dX2_enter_76 : decode cX2_enter 76 = .ok (.iaload, 1) := dk_46 (dk_at dksX2_enter_3 5 rfl rfl)
theorem dX2_enter_77 : decode cX2_enter 77 = .ok (.istore 4, 2) := dk_54 4 (dk_at dksX2_enter_3 6 rfl rfl)
theorem dX2_enter_79 : decode cX2_enter 79 = .ok (.goto (-30), 3) := dk_167 255 226 (dk_at dksX2_enter_3 8 rfl rfl)
theorem dX2_enter_82 : decode cX2_enter 82 = .ok (.iload 4, 2) := dk_21 4 (dk_at dksX2_enter_3 11 rfl rfl)
theorem dX2_enter_84 : decode cX2_enter 84 = .ok (.iconst (-1), 1) := dk_2 (dk_at dksX2_enter_3 13 rfl rfl)
theorem dX2_enter_85 : decode cX2_enter 85 = .ok (.if_icmp .eq 10, 3) := dk_159 0 10 (dk_at dksX2_enter_3 14 rfl rfl)
theorem dX2_enter_88 : decode cX2_enter 88 = .ok (.aload_n 0, 1) := dk_42 (dk_at dksX2_enter_3 17 rfl rfl)
theorem dX2_enter_89 : decode cX2_enter 89 = .ok (.iload_n 1, 1) := dk_27 (dk_at dksX2_enter_3 18 rfl rfl)
theorem dX2_enter_90 : decode cX2_enter 90 = .ok (.iload 4, 2) := dk_21 4 (dk_at dksX2_enter_3 19 rfl rfl)
theorem dX2_enter_92 : decode cX2_enter 92 = .ok (.invokevirtual 202, 3) := dk_182 0 202 (dk_at dksX2_enter_3 21 rfl rfl)
theorem dX2_enter_95 : decode cX2_enter 95 = .ok (.return_, 1) := dk_177 (dk_at dksX2_enter_4 0 rfl rfl)
abbrev cX2_insert : ByteArray := prog_11_method_28_code
def yX2_insert : MethodName := ⟨RX2, "insert", "(II)V"⟩
def dkwX2_insert_8 : List UInt8 := [177]
abbrev dktX2_insert_8 : List UInt8 := dkwX2_insert_8 ++ []
def dkwX2_insert_7 : List UInt8 := [180, 0, 31, 27, 46, 164, 0, 12, 42, 180, 0, 28, 27, 46, 167, 0, 9, 42, 180, 0, 31, 27, 46, 79]
abbrev dktX2_insert_7 : List UInt8 := dkwX2_insert_7 ++ dktX2_insert_8
def dkwX2_insert_6 : List UInt8 := [42, 180, 0, 28, 27, 92, 46, 4, 96, 79, 42, 180, 0, 31, 27, 42, 180, 0, 28, 27, 46, 42]
abbrev dktX2_insert_6 : List UInt8 := dkwX2_insert_6 ++ dktX2_insert_7
def dkwX2_insert_5 : List UInt8 := [29, 2, 159, 0, 15, 42, 180, 0, 16, 16, 100, 27, 104, 29, 96, 28, 79, 42, 27, 28, 29, 182, 0, 164]
abbrev dktX2_insert_5 : List UInt8 := dkwX2_insert_5 ++ dktX2_insert_6
def dkwX2_insert_4 : List UInt8 := [2, 159, 0, 23, 28, 29, 162, 0, 18, 42, 180, 0, 13, 16, 100, 27, 104, 29, 96, 28, 79, 167, 0, 20]
abbrev dktX2_insert_4 : List UInt8 := dkwX2_insert_4 ++ dktX2_insert_5
def dkwX2_insert_3 : List UInt8 := [180, 0, 16, 16, 100, 27, 104, 28, 96, 2, 79, 42, 180, 0, 22, 16, 100, 27, 104, 28, 96, 4, 79, 29]
abbrev dktX2_insert_3 : List UInt8 := dkwX2_insert_3 ++ dktX2_insert_4
def dkwX2_insert_2 : List UInt8 := [27, 104, 21, 4, 96, 46, 54, 4, 167, 255, 212, 42, 180, 0, 13, 16, 100, 27, 104, 28, 96, 2, 79, 42]
abbrev dktX2_insert_2 : List UInt8 := dkwX2_insert_2 ++ dktX2_insert_3
def dkwX2_insert_1 : List UInt8 := [162, 0, 18, 42, 180, 0, 13, 16, 100, 27, 104, 21, 4, 96, 46, 167, 0, 15, 42, 180, 0, 16, 16, 100]
abbrev dktX2_insert_1 : List UInt8 := dkwX2_insert_1 ++ dktX2_insert_2
def dkwX2_insert_0 : List UInt8 := [2, 62, 42, 180, 0, 25, 27, 46, 54, 4, 21, 4, 2, 159, 0, 44, 21, 4, 62, 28, 21, 4]
abbrev dktX2_insert_0 : List UInt8 := dkwX2_insert_0 ++ dktX2_insert_1
theorem dksX2_insert_0 : cX2_insert.data.toList.drop 0 = dktX2_insert_0 := by decide +kernel
theorem dksX2_insert_1 : cX2_insert.data.toList.drop 22 = dktX2_insert_1 := dk_seg dksX2_insert_0 22 rfl rfl
theorem dksX2_insert_2 : cX2_insert.data.toList.drop 46 = dktX2_insert_2 := dk_seg dksX2_insert_1 24 rfl rfl
theorem dksX2_insert_3 : cX2_insert.data.toList.drop 70 = dktX2_insert_3 := dk_seg dksX2_insert_2 24 rfl rfl
theorem dksX2_insert_4 : cX2_insert.data.toList.drop 94 = dktX2_insert_4 := dk_seg dksX2_insert_3 24 rfl rfl
theorem dksX2_insert_5 : cX2_insert.data.toList.drop 118 = dktX2_insert_5 := dk_seg dksX2_insert_4 24 rfl rfl
theorem dksX2_insert_6 : cX2_insert.data.toList.drop 142 = dktX2_insert_6 := dk_seg dksX2_insert_5 24 rfl rfl
theorem dksX2_insert_7 : cX2_insert.data.toList.drop 164 = dktX2_insert_7 := dk_seg dksX2_insert_6 22 rfl rfl
theorem dksX2_insert_8 : cX2_insert.data.toList.drop 188 = dktX2_insert_8 := dk_seg dksX2_insert_7 24 rfl rfl
theorem dX2_insert_0 : decode cX2_insert 0 = .ok (.iconst (-1), 1) := dk_2 (dk_at dksX2_insert_0 0 rfl rfl)
theorem dX2_insert_1 : decode cX2_insert 1 = .ok (.istore_n 3, 1) := dk_62 (dk_at dksX2_insert_0 1 rfl rfl)
theorem dX2_insert_2 : decode cX2_insert 2 = .ok (.aload_n 0, 1) := dk_42 (dk_at dksX2_insert_0 2 rfl rfl)
theorem dX2_insert_3 : decode cX2_insert 3 = .ok (.getfield 25, 3) := dk_180 0 25 (dk_at dksX2_insert_0 3 rfl rfl)
theorem dX2_insert_6 : decode cX2_insert 6 = .ok (.iload_n 1, 1) := dk_27 (dk_at dksX2_insert_0 6 rfl rfl)
theorem dX2_insert_7 : decode cX2_insert 7 = .ok (.iaload, 1) := dk_46 (dk_at dksX2_insert_0 7 rfl rfl)
theorem dX2_insert_8 : decode cX2_insert 8 = .ok (.istore 4, 2) := dk_54 4 (dk_at dksX2_insert_0 8 rfl rfl)
theorem dX2_insert_10 : decode cX2_insert 10 = .ok (.iload 4, 2) := dk_21 4 (dk_at dksX2_insert_0 10 rfl rfl)
theorem dX2_insert_12 : decode cX2_insert 12 = .ok (.iconst (-1), 1) := dk_2 (dk_at dksX2_insert_0 12 rfl rfl)
theorem dX2_insert_13 : decode cX2_insert 13 = .ok (.if_icmp .eq 44, 3) := dk_159 0 44 (dk_at dksX2_insert_0 13 rfl rfl)
theorem dX2_insert_16 : decode cX2_insert 16 = .ok (.iload 4, 2) := dk_21 4 (dk_at dksX2_insert_0 16 rfl rfl)
theorem dX2_insert_18 : decode cX2_insert 18 = .ok (.istore_n 3, 1) := dk_62 (dk_at dksX2_insert_0 18 rfl rfl)
theorem dX2_insert_19 : decode cX2_insert 19 = .ok (.iload_n 2, 1) := dk_28 (dk_at dksX2_insert_0 19 rfl rfl)
theorem dX2_insert_20 : decode cX2_insert 20 = .ok (.iload 4, 2) := dk_21 4 (dk_at dksX2_insert_0 20 rfl rfl)
theorem dX2_insert_22 : decode cX2_insert 22 = .ok (.if_icmp .ge 18, 3) := dk_162 0 18 (dk_at dksX2_insert_1 0 rfl rfl)
theorem dX2_insert_25 : decode cX2_insert 25 = .ok (.aload_n 0, 1) := dk_42 (dk_at dksX2_insert_1 3 rfl rfl)
theorem dX2_insert_26 : decode cX2_insert 26 = .ok (.getfield 13, 3) := dk_180 0 13 (dk_at dksX2_insert_1 4 rfl rfl)
theorem dX2_insert_29 : decode cX2_insert 29 = .ok (.bipush 100, 2) := dk_16 100 (dk_at dksX2_insert_1 7 rfl rfl)
theorem dX2_insert_31 : decode cX2_insert 31 = .ok (.iload_n 1, 1) := dk_27 (dk_at dksX2_insert_1 9 rfl rfl)
theorem dX2_insert_32 : decode cX2_insert 32 = .ok (.imul, 1) := dk_104 (dk_at dksX2_insert_1 10 rfl rfl)
theorem dX2_insert_33 : decode cX2_insert 33 = .ok (.iload 4, 2) := dk_21 4 (dk_at dksX2_insert_1 11 rfl rfl)
theorem dX2_insert_35 : decode cX2_insert 35 = .ok (.iadd, 1) := dk_96 (dk_at dksX2_insert_1 13 rfl rfl)
theorem dX2_insert_36 : decode cX2_insert 36 = .ok (.iaload, 1) := dk_46 (dk_at dksX2_insert_1 14 rfl rfl)
theorem dX2_insert_37 : decode cX2_insert 37 = .ok (.goto 15, 3) := dk_167 0 15 (dk_at dksX2_insert_1 15 rfl rfl)
theorem dX2_insert_40 : decode cX2_insert 40 = .ok (.aload_n 0, 1) := dk_42 (dk_at dksX2_insert_1 18 rfl rfl)
theorem dX2_insert_41 : decode cX2_insert 41 = .ok (.getfield 16, 3) := dk_180 0 16 (dk_at dksX2_insert_1 19 rfl rfl)
theorem dX2_insert_44 : decode cX2_insert 44 = .ok (.bipush 100, 2) := dk_16 100 (dk_at dksX2_insert_1 22 rfl rfl)
theorem dX2_insert_46 : decode cX2_insert 46 = .ok (.iload_n 1, 1) := dk_27 (dk_at dksX2_insert_2 0 rfl rfl)
theorem dX2_insert_47 : decode cX2_insert 47 = .ok (.imul, 1) := dk_104 (dk_at dksX2_insert_2 1 rfl rfl)
theorem dX2_insert_48 : decode cX2_insert 48 = .ok (.iload 4, 2) := dk_21 4 (dk_at dksX2_insert_2 2 rfl rfl)
theorem dX2_insert_50 : decode cX2_insert 50 = .ok (.iadd, 1) := dk_96 (dk_at dksX2_insert_2 4 rfl rfl)
theorem dX2_insert_51 : decode cX2_insert 51 = .ok (.iaload, 1) := dk_46 (dk_at dksX2_insert_2 5 rfl rfl)
theorem dX2_insert_52 : decode cX2_insert 52 = .ok (.istore 4, 2) := dk_54 4 (dk_at dksX2_insert_2 6 rfl rfl)
theorem dX2_insert_54 : decode cX2_insert 54 = .ok (.goto (-44), 3) := dk_167 255 212 (dk_at dksX2_insert_2 8 rfl rfl)
theorem dX2_insert_57 : decode cX2_insert 57 = .ok (.aload_n 0, 1) := dk_42 (dk_at dksX2_insert_2 11 rfl rfl)
theorem dX2_insert_58 : decode cX2_insert 58 = .ok (.getfield 13, 3) := dk_180 0 13 (dk_at dksX2_insert_2 12 rfl rfl)
theorem dX2_insert_61 : decode cX2_insert 61 = .ok (.bipush 100, 2) := dk_16 100 (dk_at dksX2_insert_2 15 rfl rfl)
theorem dX2_insert_63 : decode cX2_insert 63 = .ok (.iload_n 1, 1) := dk_27 (dk_at dksX2_insert_2 17 rfl rfl)
theorem dX2_insert_64 : decode cX2_insert 64 = .ok (.imul, 1) := dk_104 (dk_at dksX2_insert_2 18 rfl rfl)
theorem dX2_insert_65 : decode cX2_insert 65 = .ok (.iload_n 2, 1) := dk_28 (dk_at dksX2_insert_2 19 rfl rfl)
theorem dX2_insert_66 : decode cX2_insert 66 = .ok (.iadd, 1) := dk_96 (dk_at dksX2_insert_2 20 rfl rfl)
theorem dX2_insert_67 : decode cX2_insert 67 = .ok (.iconst (-1), 1) := dk_2 (dk_at dksX2_insert_2 21 rfl rfl)
theorem dX2_insert_68 : decode cX2_insert 68 = .ok (.iastore, 1) := dk_79 (dk_at dksX2_insert_2 22 rfl rfl)
theorem dX2_insert_69 : decode cX2_insert 69 = .ok (.aload_n 0, 1) := dk_42 (dk_at dksX2_insert_2 23 rfl rfl)
theorem dX2_insert_70 : decode cX2_insert 70 = .ok (.getfield 16, 3) := dk_180 0 16 (dk_at dksX2_insert_3 0 rfl rfl)
theorem dX2_insert_73 : decode cX2_insert 73 = .ok (.bipush 100, 2) := dk_16 100 (dk_at dksX2_insert_3 3 rfl rfl)
theorem dX2_insert_75 : decode cX2_insert 75 = .ok (.iload_n 1, 1) := dk_27 (dk_at dksX2_insert_3 5 rfl rfl)
theorem dX2_insert_76 : decode cX2_insert 76 = .ok (.imul, 1) := dk_104 (dk_at dksX2_insert_3 6 rfl rfl)
theorem dX2_insert_77 : decode cX2_insert 77 = .ok (.iload_n 2, 1) := dk_28 (dk_at dksX2_insert_3 7 rfl rfl)
theorem dX2_insert_78 : decode cX2_insert 78 = .ok (.iadd, 1) := dk_96 (dk_at dksX2_insert_3 8 rfl rfl)
theorem dX2_insert_79 : decode cX2_insert 79 = .ok (.iconst (-1), 1) := dk_2 (dk_at dksX2_insert_3 9 rfl rfl)
theorem dX2_insert_80 : decode cX2_insert 80 = .ok (.iastore, 1) := dk_79 (dk_at dksX2_insert_3 10 rfl rfl)
theorem dX2_insert_81 : decode cX2_insert 81 = .ok (.aload_n 0, 1) := dk_42 (dk_at dksX2_insert_3 11 rfl rfl)
theorem dX2_insert_82 : decode cX2_insert 82 = .ok (.getfield 22, 3) := dk_180 0 22 (dk_at dksX2_insert_3 12 rfl rfl)
theorem dX2_insert_85 : decode cX2_insert 85 = .ok (.bipush 100, 2) := dk_16 100 (dk_at dksX2_insert_3 15 rfl rfl)
theorem dX2_insert_87 : decode cX2_insert 87 = .ok (.iload_n 1, 1) := dk_27 (dk_at dksX2_insert_3 17 rfl rfl)
theorem dX2_insert_88 : decode cX2_insert 88 = .ok (.imul, 1) := dk_104 (dk_at dksX2_insert_3 18 rfl rfl)
theorem dX2_insert_89 : decode cX2_insert 89 = .ok (.iload_n 2, 1) := dk_28 (dk_at dksX2_insert_3 19 rfl rfl)
theorem dX2_insert_90 : decode cX2_insert 90 = .ok (.iadd, 1) := dk_96 (dk_at dksX2_insert_3 20 rfl rfl)
theorem dX2_insert_91 : decode cX2_insert 91 = .ok (.iconst 1, 1) := dk_4 (dk_at dksX2_insert_3 21 rfl rfl)
theorem dX2_insert_92 : decode cX2_insert 92 = .ok (.iastore, 1) := dk_79 (dk_at dksX2_insert_3 22 rfl rfl)
theorem dX2_insert_93 : decode cX2_insert 93 = .ok (.iload_n 3, 1) := dk_29 (dk_at dksX2_insert_3 23 rfl rfl)
theorem dX2_insert_94 : decode cX2_insert 94 = .ok (.iconst (-1), 1) := dk_2 (dk_at dksX2_insert_4 0 rfl rfl)
theorem dX2_insert_95 : decode cX2_insert 95 = .ok (.if_icmp .eq 23, 3) := dk_159 0 23 (dk_at dksX2_insert_4 1 rfl rfl)
theorem dX2_insert_98 : decode cX2_insert 98 = .ok (.iload_n 2, 1) := dk_28 (dk_at dksX2_insert_4 4 rfl rfl)
theorem dX2_insert_99 : decode cX2_insert 99 = .ok (.iload_n 3, 1) := dk_29 (dk_at dksX2_insert_4 5 rfl rfl)
theorem dX2_insert_100 : decode cX2_insert 100 = .ok (.if_icmp .ge 18, 3) := dk_162 0 18 (dk_at dksX2_insert_4 6 rfl rfl)
theorem dX2_insert_103 : decode cX2_insert 103 = .ok (.aload_n 0, 1) := dk_42 (dk_at dksX2_insert_4 9 rfl rfl)
theorem dX2_insert_104 : decode cX2_insert 104 = .ok (.getfield 13, 3) := dk_180 0 13 (dk_at dksX2_insert_4 10 rfl rfl)
theorem dX2_insert_107 : decode cX2_insert 107 = .ok (.bipush 100, 2) := dk_16 100 (dk_at dksX2_insert_4 13 rfl rfl)
theorem dX2_insert_109 : decode cX2_insert 109 = .ok (.iload_n 1, 1) := dk_27 (dk_at dksX2_insert_4 15 rfl rfl)
theorem dX2_insert_110 : decode cX2_insert 110 = .ok (.imul, 1) := dk_104 (dk_at dksX2_insert_4 16 rfl rfl)
theorem dX2_insert_111 : decode cX2_insert 111 = .ok (.iload_n 3, 1) := dk_29 (dk_at dksX2_insert_4 17 rfl rfl)
theorem dX2_insert_112 : decode cX2_insert 112 = .ok (.iadd, 1) := dk_96 (dk_at dksX2_insert_4 18 rfl rfl)
theorem dX2_insert_113 : decode cX2_insert 113 = .ok (.iload_n 2, 1) := dk_28 (dk_at dksX2_insert_4 19 rfl rfl)
theorem dX2_insert_114 : decode cX2_insert 114 = .ok (.iastore, 1) := dk_79 (dk_at dksX2_insert_4 20 rfl rfl)
theorem dX2_insert_115 : decode cX2_insert 115 = .ok (.goto 20, 3) := dk_167 0 20 (dk_at dksX2_insert_4 21 rfl rfl)
theorem dX2_insert_118 : decode cX2_insert 118 = .ok (.iload_n 3, 1) := dk_29 (dk_at dksX2_insert_5 0 rfl rfl)
theorem dX2_insert_119 : decode cX2_insert 119 = .ok (.iconst (-1), 1) := dk_2 (dk_at dksX2_insert_5 1 rfl rfl)
theorem dX2_insert_120 : decode cX2_insert 120 = .ok (.if_icmp .eq 15, 3) := dk_159 0 15 (dk_at dksX2_insert_5 2 rfl rfl)
theorem dX2_insert_123 : decode cX2_insert 123 = .ok (.aload_n 0, 1) := dk_42 (dk_at dksX2_insert_5 5 rfl rfl)
theorem dX2_insert_124 : decode cX2_insert 124 = .ok (.getfield 16, 3) := dk_180 0 16 (dk_at dksX2_insert_5 6 rfl rfl)
theorem dX2_insert_127 : decode cX2_insert 127 = .ok (.bipush 100, 2) := dk_16 100 (dk_at dksX2_insert_5 9 rfl rfl)
theorem dX2_insert_129 : decode cX2_insert 129 = .ok (.iload_n 1, 1) := dk_27 (dk_at dksX2_insert_5 11 rfl rfl)
theorem dX2_insert_130 : decode cX2_insert 130 = .ok (.imul, 1) := dk_104 (dk_at dksX2_insert_5 12 rfl rfl)
theorem dX2_insert_131 : decode cX2_insert 131 = .ok (.iload_n 3, 1) := dk_29 (dk_at dksX2_insert_5 13 rfl rfl)
theorem dX2_insert_132 : decode cX2_insert 132 = .ok (.iadd, 1) := dk_96 (dk_at dksX2_insert_5 14 rfl rfl)
theorem dX2_insert_133 : decode cX2_insert 133 = .ok (.iload_n 2, 1) := dk_28 (dk_at dksX2_insert_5 15 rfl rfl)
theorem dX2_insert_134 : decode cX2_insert 134 = .ok (.iastore, 1) := dk_79 (dk_at dksX2_insert_5 16 rfl rfl)
theorem dX2_insert_135 : decode cX2_insert 135 = .ok (.aload_n 0, 1) := dk_42 (dk_at dksX2_insert_5 17 rfl rfl)
theorem dX2_insert_136 : decode cX2_insert 136 = .ok (.iload_n 1, 1) := dk_27 (dk_at dksX2_insert_5 18 rfl rfl)
theorem dX2_insert_137 : decode cX2_insert 137 = .ok (.iload_n 2, 1) := dk_28 (dk_at dksX2_insert_5 19 rfl rfl)
theorem dX2_insert_138 : decode cX2_insert 138 = .ok (.iload_n 3, 1) := dk_29 (dk_at dksX2_insert_5 20 rfl rfl)
theorem dX2_insert_139 : decode cX2_insert 139 = .ok (.invokevirtual 164, 3) := dk_182 0 164 (dk_at dksX2_insert_5 21 rfl rfl)
theorem dX2_insert_142 : decode cX2_insert 142 = .ok (.aload_n 0, 1) := dk_42 (dk_at dksX2_insert_6 0 rfl rfl)
theorem dX2_insert_143 : decode cX2_insert 143 = .ok (.getfield 28, 3) := dk_180 0 28 (dk_at dksX2_insert_6 1 rfl rfl)
theorem dX2_insert_146 : decode cX2_insert 146 = .ok (.iload_n 1, 1) := dk_27 (dk_at dksX2_insert_6 4 rfl rfl)
theorem dX2_insert_147 : decode cX2_insert 147 = .ok (.dup2, 1) := dk_92 (dk_at dksX2_insert_6 5 rfl rfl)
theorem dX2_insert_148 : decode cX2_insert 148 = .ok (.iaload, 1) := dk_46 (dk_at dksX2_insert_6 6 rfl rfl)
theorem dX2_insert_149 : decode cX2_insert 149 = .ok (.iconst 1, 1) := dk_4 (dk_at dksX2_insert_6 7 rfl rfl)
theorem dX2_insert_150 : decode cX2_insert 150 = .ok (.iadd, 1) := dk_96 (dk_at dksX2_insert_6 8 rfl rfl)
theorem dX2_insert_151 : decode cX2_insert 151 = .ok (.iastore, 1) := dk_79 (dk_at dksX2_insert_6 9 rfl rfl)
theorem dX2_insert_152 : decode cX2_insert 152 = .ok (.aload_n 0, 1) := dk_42 (dk_at dksX2_insert_6 10 rfl rfl)
theorem dX2_insert_153 : decode cX2_insert 153 = .ok (.getfield 31, 3) := dk_180 0 31 (dk_at dksX2_insert_6 11 rfl rfl)
theorem dX2_insert_156 : decode cX2_insert 156 = .ok (.iload_n 1, 1) := dk_27 (dk_at dksX2_insert_6 14 rfl rfl)
theorem dX2_insert_157 : decode cX2_insert 157 = .ok (.aload_n 0, 1) := dk_42 (dk_at dksX2_insert_6 15 rfl rfl)
theorem dX2_insert_158 : decode cX2_insert 158 = .ok (.getfield 28, 3) := dk_180 0 28 (dk_at dksX2_insert_6 16 rfl rfl)
theorem dX2_insert_161 : decode cX2_insert 161 = .ok (.iload_n 1, 1) := dk_27 (dk_at dksX2_insert_6 19 rfl rfl)
theorem dX2_insert_162 : decode cX2_insert 162 = .ok (.iaload, 1) := dk_46 (dk_at dksX2_insert_6 20 rfl rfl)
theorem dX2_insert_163 : decode cX2_insert 163 = .ok (.aload_n 0, 1) := dk_42 (dk_at dksX2_insert_6 21 rfl rfl)
theorem dX2_insert_164 : decode cX2_insert 164 = .ok (.getfield 31, 3) := dk_180 0 31 (dk_at dksX2_insert_7 0 rfl rfl)
theorem dX2_insert_167 : decode cX2_insert 167 = .ok (.iload_n 1, 1) := dk_27 (dk_at dksX2_insert_7 3 rfl rfl)
theorem dX2_insert_168 : decode cX2_insert 168 = .ok (.iaload, 1) := dk_46 (dk_at dksX2_insert_7 4 rfl rfl)
theorem dX2_insert_169 : decode cX2_insert 169 = .ok (.if_icmp .le 12, 3) := dk_164 0 12 (dk_at dksX2_insert_7 5 rfl rfl)
theorem dX2_insert_172 : decode cX2_insert 172 = .ok (.aload_n 0, 1) := dk_42 (dk_at dksX2_insert_7 8 rfl rfl)
theorem dX2_insert_173 : decode cX2_insert 173 = .ok (.getfield 28, 3) := dk_180 0 28 (dk_at dksX2_insert_7 9 rfl rfl)
theorem dX2_insert_176 : decode cX2_insert 176 = .ok (.iload_n 1, 1) := dk_27 (dk_at dksX2_insert_7 12 rfl rfl)
theorem dX2_insert_177 : decode cX2_insert 177 = .ok (.iaload, 1) := dk_46 (dk_at dksX2_insert_7 13 rfl rfl)
theorem dX2_insert_178 : decode cX2_insert 178 = .ok (.goto 9, 3) := dk_167 0 9 (dk_at dksX2_insert_7 14 rfl rfl)
theorem dX2_insert_181 : decode cX2_insert 181 = .ok (.aload_n 0, 1) := dk_42 (dk_at dksX2_insert_7 17 rfl rfl)
theorem dX2_insert_182 : decode cX2_insert 182 = .ok (.getfield 31, 3) := dk_180 0 31 (dk_at dksX2_insert_7 18 rfl rfl)
theorem dX2_insert_185 : decode cX2_insert 185 = .ok (.iload_n 1, 1) := dk_27 (dk_at dksX2_insert_7 21 rfl rfl)
theorem dX2_insert_186 : decode cX2_insert 186 = .ok (.iaload, 1) := dk_46 (dk_at dksX2_insert_7 22 rfl rfl)
theorem dX2_insert_187 : decode cX2_insert 187 = .ok (.iastore, 1) := dk_79 (dk_at dksX2_insert_7 23 rfl rfl)
theorem dX2_insert_188 : decode cX2_insert 188 = .ok (.return_, 1) := dk_177 (dk_at dksX2_insert_8 0 rfl rfl)
abbrev cX2_hang : ByteArray := prog_11_method_23_code
def yX2_hang : MethodName := ⟨RX2, "hang", "(III)V"⟩
def dkwX2_hang_1 : List UInt8 := [180, 0, 25, 27, 28, 79, 177]
abbrev dktX2_hang_1 : List UInt8 := dkwX2_hang_1 ++ []
def dkwX2_hang_0 : List UInt8 := [28, 2, 159, 0, 15, 42, 180, 0, 19, 16, 100, 27, 104, 28, 96, 29, 79, 29, 2, 160, 0, 10, 42]
abbrev dktX2_hang_0 : List UInt8 := dkwX2_hang_0 ++ dktX2_hang_1
theorem dksX2_hang_0 : cX2_hang.data.toList.drop 0 = dktX2_hang_0 := by decide +kernel
theorem dksX2_hang_1 : cX2_hang.data.toList.drop 23 = dktX2_hang_1 := dk_seg dksX2_hang_0 23 rfl rfl
theorem dX2_hang_0 : decode cX2_hang 0 = .ok (.iload_n 2, 1) := dk_28 (dk_at dksX2_hang_0 0 rfl rfl)
theorem dX2_hang_1 : decode cX2_hang 1 = .ok (.iconst (-1), 1) := dk_2 (dk_at dksX2_hang_0 1 rfl rfl)
theorem dX2_hang_2 : decode cX2_hang 2 = .ok (.if_icmp .eq 15, 3) := dk_159 0 15 (dk_at dksX2_hang_0 2 rfl rfl)
theorem dX2_hang_5 : decode cX2_hang 5 = .ok (.aload_n 0, 1) := dk_42 (dk_at dksX2_hang_0 5 rfl rfl)
theorem dX2_hang_6 : decode cX2_hang 6 = .ok (.getfield 19, 3) := dk_180 0 19 (dk_at dksX2_hang_0 6 rfl rfl)
theorem dX2_hang_9 : decode cX2_hang 9 = .ok (.bipush 100, 2) := dk_16 100 (dk_at dksX2_hang_0 9 rfl rfl)
theorem dX2_hang_11 : decode cX2_hang 11 = .ok (.iload_n 1, 1) := dk_27 (dk_at dksX2_hang_0 11 rfl rfl)
theorem dX2_hang_12 : decode cX2_hang 12 = .ok (.imul, 1) := dk_104 (dk_at dksX2_hang_0 12 rfl rfl)
theorem dX2_hang_13 : decode cX2_hang 13 = .ok (.iload_n 2, 1) := dk_28 (dk_at dksX2_hang_0 13 rfl rfl)
theorem dX2_hang_14 : decode cX2_hang 14 = .ok (.iadd, 1) := dk_96 (dk_at dksX2_hang_0 14 rfl rfl)
theorem dX2_hang_15 : decode cX2_hang 15 = .ok (.iload_n 3, 1) := dk_29 (dk_at dksX2_hang_0 15 rfl rfl)
theorem dX2_hang_16 : decode cX2_hang 16 = .ok (.iastore, 1) := dk_79 (dk_at dksX2_hang_0 16 rfl rfl)
theorem dX2_hang_17 : decode cX2_hang 17 = .ok (.iload_n 3, 1) := dk_29 (dk_at dksX2_hang_0 17 rfl rfl)
theorem dX2_hang_18 : decode cX2_hang 18 = .ok (.iconst (-1), 1) := dk_2 (dk_at dksX2_hang_0 18 rfl rfl)
theorem dX2_hang_19 : decode cX2_hang 19 = .ok (.if_icmp .ne 10, 3) := dk_160 0 10 (dk_at dksX2_hang_0 19 rfl rfl)
theorem dX2_hang_22 : decode cX2_hang 22 = .ok (.aload_n 0, 1) := dk_42 (dk_at dksX2_hang_0 22 rfl rfl)
theorem dX2_hang_23 : decode cX2_hang 23 = .ok (.getfield 25, 3) := dk_180 0 25 (dk_at dksX2_hang_1 0 rfl rfl)
theorem dX2_hang_26 : decode cX2_hang 26 = .ok (.iload_n 1, 1) := dk_27 (dk_at dksX2_hang_1 3 rfl rfl)
theorem dX2_hang_27 : decode cX2_hang 27 = .ok (.iload_n 2, 1) := dk_28 (dk_at dksX2_hang_1 4 rfl rfl)
theorem dX2_hang_28 : decode cX2_hang 28 = .ok (.iastore, 1) := dk_79 (dk_at dksX2_hang_1 5 rfl rfl)
theorem dX2_hang_29 : decode cX2_hang 29 = .ok (.return_, 1) := dk_177 (dk_at dksX2_hang_1 6 rfl rfl)
abbrev cX2_depth : ByteArray := prog_11_method_18_code
def yX2_depth : MethodName := ⟨RX2, "depth", "(II)I"⟩
def dkwX2_depth_1 : List UInt8 := [42, 180, 0, 19, 16, 100, 27, 104, 21, 4, 96, 46, 54, 4, 167, 255, 233, 29, 172]
abbrev dktX2_depth_1 : List UInt8 := dkwX2_depth_1 ++ []
def dkwX2_depth_0 : List UInt8 := [3, 62, 42, 180, 0, 19, 16, 100, 27, 104, 28, 96, 46, 54, 4, 21, 4, 2, 159, 0, 23, 132, 3, 1]
abbrev dktX2_depth_0 : List UInt8 := dkwX2_depth_0 ++ dktX2_depth_1
theorem dksX2_depth_0 : cX2_depth.data.toList.drop 0 = dktX2_depth_0 := by decide +kernel
theorem dksX2_depth_1 : cX2_depth.data.toList.drop 24 = dktX2_depth_1 := dk_seg dksX2_depth_0 24 rfl rfl
theorem dX2_depth_0 : decode cX2_depth 0 = .ok (.iconst 0, 1) := dk_3 (dk_at dksX2_depth_0 0 rfl rfl)
theorem dX2_depth_1 : decode cX2_depth 1 = .ok (.istore_n 3, 1) := dk_62 (dk_at dksX2_depth_0 1 rfl rfl)
theorem dX2_depth_2 : decode cX2_depth 2 = .ok (.aload_n 0, 1) := dk_42 (dk_at dksX2_depth_0 2 rfl rfl)
theorem dX2_depth_3 : decode cX2_depth 3 = .ok (.getfield 19, 3) := dk_180 0 19 (dk_at dksX2_depth_0 3 rfl rfl)
theorem dX2_depth_6 : decode cX2_depth 6 = .ok (.bipush 100, 2) := dk_16 100 (dk_at dksX2_depth_0 6 rfl rfl)
theorem dX2_depth_8 : decode cX2_depth 8 = .ok (.iload_n 1, 1) := dk_27 (dk_at dksX2_depth_0 8 rfl rfl)
theorem dX2_depth_9 : decode cX2_depth 9 = .ok (.imul, 1) := dk_104 (dk_at dksX2_depth_0 9 rfl rfl)
theorem dX2_depth_10 : decode cX2_depth 10 = .ok (.iload_n 2, 1) := dk_28 (dk_at dksX2_depth_0 10 rfl rfl)
theorem dX2_depth_11 : decode cX2_depth 11 = .ok (.iadd, 1) := dk_96 (dk_at dksX2_depth_0 11 rfl rfl)
theorem dX2_depth_12 : decode cX2_depth 12 = .ok (.iaload, 1) := dk_46 (dk_at dksX2_depth_0 12 rfl rfl)
theorem dX2_depth_13 : decode cX2_depth 13 = .ok (.istore 4, 2) := dk_54 4 (dk_at dksX2_depth_0 13 rfl rfl)
theorem dX2_depth_15 : decode cX2_depth 15 = .ok (.iload 4, 2) := dk_21 4 (dk_at dksX2_depth_0 15 rfl rfl)
theorem dX2_depth_17 : decode cX2_depth 17 = .ok (.iconst (-1), 1) := dk_2 (dk_at dksX2_depth_0 17 rfl rfl)
theorem dX2_depth_18 : decode cX2_depth 18 = .ok (.if_icmp .eq 23, 3) := dk_159 0 23 (dk_at dksX2_depth_0 18 rfl rfl)
theorem dX2_depth_21 : decode cX2_depth 21 = .ok (.iinc 3 1, 3) := dk_132 3 1 (dk_at dksX2_depth_0 21 rfl rfl)
theorem dX2_depth_24 : decode cX2_depth 24 = .ok (.aload_n 0, 1) := dk_42 (dk_at dksX2_depth_1 0 rfl rfl)
theorem dX2_depth_25 : decode cX2_depth 25 = .ok (.getfield 19, 3) := dk_180 0 19 (dk_at dksX2_depth_1 1 rfl rfl)
theorem dX2_depth_28 : decode cX2_depth 28 = .ok (.bipush 100, 2) := dk_16 100 (dk_at dksX2_depth_1 4 rfl rfl)
theorem dX2_depth_30 : decode cX2_depth 30 = .ok (.iload_n 1, 1) := dk_27 (dk_at dksX2_depth_1 6 rfl rfl)
theorem dX2_depth_31 : decode cX2_depth 31 = .ok (.imul, 1) := dk_104 (dk_at dksX2_depth_1 7 rfl rfl)
theorem dX2_depth_32 : decode cX2_depth 32 = .ok (.iload 4, 2) := dk_21 4 (dk_at dksX2_depth_1 8 rfl rfl)
theorem dX2_depth_34 : decode cX2_depth 34 = .ok (.iadd, 1) := dk_96 (dk_at dksX2_depth_1 10 rfl rfl)
theorem dX2_depth_35 : decode cX2_depth 35 = .ok (.iaload, 1) := dk_46 (dk_at dksX2_depth_1 11 rfl rfl)
theorem dX2_depth_36 : decode cX2_depth 36 = .ok (.istore 4, 2) := dk_54 4 (dk_at dksX2_depth_1 12 rfl rfl)
theorem dX2_depth_38 : decode cX2_depth 38 = .ok (.goto (-23), 3) := dk_167 255 233 (dk_at dksX2_depth_1 14 rfl rfl)
theorem dX2_depth_41 : decode cX2_depth 41 = .ok (.iload_n 3, 1) := dk_29 (dk_at dksX2_depth_1 17 rfl rfl)
theorem dX2_depth_42 : decode cX2_depth 42 = .ok (.ireturn, 1) := dk_172 (dk_at dksX2_depth_1 18 rfl rfl)
abbrev cX2_pay : ByteArray := prog_11_method_27_code
def yX2_pay : MethodName := ⟨RX2, "pay", "(II)V"⟩
def dkwX2_pay_1 : List UInt8 := [162, 0, 10, 42, 180, 0, 184, 167, 0, 7, 42, 180, 0, 187, 181, 0, 187, 177]
abbrev dktX2_pay_1 : List UInt8 := dkwX2_pay_1 ++ []
def dkwX2_pay_0 : List UInt8 := [27, 154, 0, 39, 42, 89, 180, 0, 184, 28, 96, 181, 0, 184, 42, 42, 180, 0, 184, 42, 180, 0, 187]
abbrev dktX2_pay_0 : List UInt8 := dkwX2_pay_0 ++ dktX2_pay_1
theorem dksX2_pay_0 : cX2_pay.data.toList.drop 0 = dktX2_pay_0 := by decide +kernel
theorem dksX2_pay_1 : cX2_pay.data.toList.drop 23 = dktX2_pay_1 := dk_seg dksX2_pay_0 23 rfl rfl
theorem dX2_pay_0 : decode cX2_pay 0 = .ok (.iload_n 1, 1) := dk_27 (dk_at dksX2_pay_0 0 rfl rfl)
theorem dX2_pay_1 : decode cX2_pay 1 = .ok (.ifCond .ne 39, 3) := dk_154 0 39 (dk_at dksX2_pay_0 1 rfl rfl)
theorem dX2_pay_4 : decode cX2_pay 4 = .ok (.aload_n 0, 1) := dk_42 (dk_at dksX2_pay_0 4 rfl rfl)
theorem dX2_pay_5 : decode cX2_pay 5 = .ok (.dup, 1) := dk_89 (dk_at dksX2_pay_0 5 rfl rfl)
theorem dX2_pay_6 : decode cX2_pay 6 = .ok (.getfield 184, 3) := dk_180 0 184 (dk_at dksX2_pay_0 6 rfl rfl)
theorem dX2_pay_9 : decode cX2_pay 9 = .ok (.iload_n 2, 1) := dk_28 (dk_at dksX2_pay_0 9 rfl rfl)
theorem dX2_pay_10 : decode cX2_pay 10 = .ok (.iadd, 1) := dk_96 (dk_at dksX2_pay_0 10 rfl rfl)
theorem dX2_pay_11 : decode cX2_pay 11 = .ok (.putfield 184, 3) := dk_181 0 184 (dk_at dksX2_pay_0 11 rfl rfl)
theorem dX2_pay_14 : decode cX2_pay 14 = .ok (.aload_n 0, 1) := dk_42 (dk_at dksX2_pay_0 14 rfl rfl)
theorem dX2_pay_15 : decode cX2_pay 15 = .ok (.aload_n 0, 1) := dk_42 (dk_at dksX2_pay_0 15 rfl rfl)
theorem dX2_pay_16 : decode cX2_pay 16 = .ok (.getfield 184, 3) := dk_180 0 184 (dk_at dksX2_pay_0 16 rfl rfl)
theorem dX2_pay_19 : decode cX2_pay 19 = .ok (.aload_n 0, 1) := dk_42 (dk_at dksX2_pay_0 19 rfl rfl)
theorem dX2_pay_20 : decode cX2_pay 20 = .ok (.getfield 187, 3) := dk_180 0 187 (dk_at dksX2_pay_0 20 rfl rfl)
theorem dX2_pay_23 : decode cX2_pay 23 = .ok (.if_icmp .ge 10, 3) := dk_162 0 10 (dk_at dksX2_pay_1 0 rfl rfl)
theorem dX2_pay_26 : decode cX2_pay 26 = .ok (.aload_n 0, 1) := dk_42 (dk_at dksX2_pay_1 3 rfl rfl)
theorem dX2_pay_27 : decode cX2_pay 27 = .ok (.getfield 184, 3) := dk_180 0 184 (dk_at dksX2_pay_1 4 rfl rfl)
theorem dX2_pay_30 : decode cX2_pay 30 = .ok (.goto 7, 3) := dk_167 0 7 (dk_at dksX2_pay_1 7 rfl rfl)
theorem dX2_pay_33 : decode cX2_pay 33 = .ok (.aload_n 0, 1) := dk_42 (dk_at dksX2_pay_1 10 rfl rfl)
theorem dX2_pay_34 : decode cX2_pay 34 = .ok (.getfield 187, 3) := dk_180 0 187 (dk_at dksX2_pay_1 11 rfl rfl)
theorem dX2_pay_37 : decode cX2_pay 37 = .ok (.putfield 187, 3) := dk_181 0 187 (dk_at dksX2_pay_1 14 rfl rfl)
theorem dX2_pay_40 : decode cX2_pay 40 = .ok (.return_, 1) := dk_177 (dk_at dksX2_pay_1 17 rfl rfl)
abbrev cX2_limit : ByteArray := prog_11_method_22_code
def yX2_limit : MethodName := ⟨RX2, "limit", "(II)I"⟩
def dkwX2_limit_2 : List UInt8 := [55, 4, 22, 6, 42, 27, 182, 0, 161, 133, 105, 55, 6, 167, 255, 218, 29, 172]
abbrev dktX2_limit_2 : List UInt8 := dkwX2_limit_2 ++ []
def dkwX2_limit_1 : List UInt8 := [164, 0, 39, 22, 4, 22, 6, 148, 157, 0, 31, 132, 3, 1, 22, 4, 42, 27, 182, 0, 158, 133, 105]
abbrev dktX2_limit_1 : List UInt8 := dkwX2_limit_1 ++ dktX2_limit_2
def dkwX2_limit_0 : List UInt8 := [3, 62, 42, 27, 182, 0, 158, 133, 55, 4, 42, 27, 182, 0, 161, 133, 28, 133, 105, 55, 6, 28, 4]
abbrev dktX2_limit_0 : List UInt8 := dkwX2_limit_0 ++ dktX2_limit_1
theorem dksX2_limit_0 : cX2_limit.data.toList.drop 0 = dktX2_limit_0 := by decide +kernel
theorem dksX2_limit_1 : cX2_limit.data.toList.drop 23 = dktX2_limit_1 := dk_seg dksX2_limit_0 23 rfl rfl
theorem dksX2_limit_2 : cX2_limit.data.toList.drop 46 = dktX2_limit_2 := dk_seg dksX2_limit_1 23 rfl rfl
theorem dX2_limit_0 : decode cX2_limit 0 = .ok (.iconst 0, 1) := dk_3 (dk_at dksX2_limit_0 0 rfl rfl)
theorem dX2_limit_1 : decode cX2_limit 1 = .ok (.istore_n 3, 1) := dk_62 (dk_at dksX2_limit_0 1 rfl rfl)
theorem dX2_limit_2 : decode cX2_limit 2 = .ok (.aload_n 0, 1) := dk_42 (dk_at dksX2_limit_0 2 rfl rfl)
theorem dX2_limit_3 : decode cX2_limit 3 = .ok (.iload_n 1, 1) := dk_27 (dk_at dksX2_limit_0 3 rfl rfl)
theorem dX2_limit_4 : decode cX2_limit 4 = .ok (.invokevirtual 158, 3) := dk_182 0 158 (dk_at dksX2_limit_0 4 rfl rfl)
theorem dX2_limit_7 : decode cX2_limit 7 = .ok (.i2l, 1) := dk_133 (dk_at dksX2_limit_0 7 rfl rfl)
theorem dX2_limit_8 : decode cX2_limit 8 = .ok (.lstore 4, 2) := dk_55 4 (dk_at dksX2_limit_0 8 rfl rfl)
theorem dX2_limit_10 : decode cX2_limit 10 = .ok (.aload_n 0, 1) := dk_42 (dk_at dksX2_limit_0 10 rfl rfl)
theorem dX2_limit_11 : decode cX2_limit 11 = .ok (.iload_n 1, 1) := dk_27 (dk_at dksX2_limit_0 11 rfl rfl)
theorem dX2_limit_12 : decode cX2_limit 12 = .ok (.invokevirtual 161, 3) := dk_182 0 161 (dk_at dksX2_limit_0 12 rfl rfl)
theorem dX2_limit_15 : decode cX2_limit 15 = .ok (.i2l, 1) := dk_133 (dk_at dksX2_limit_0 15 rfl rfl)
theorem dX2_limit_16 : decode cX2_limit 16 = .ok (.iload_n 2, 1) := dk_28 (dk_at dksX2_limit_0 16 rfl rfl)
theorem dX2_limit_17 : decode cX2_limit 17 = .ok (.i2l, 1) := dk_133 (dk_at dksX2_limit_0 17 rfl rfl)
theorem dX2_limit_18 : decode cX2_limit 18 = .ok (.lmul, 1) := dk_105 (dk_at dksX2_limit_0 18 rfl rfl)
theorem dX2_limit_19 : decode cX2_limit 19 = .ok (.lstore 6, 2) := dk_55 6 (dk_at dksX2_limit_0 19 rfl rfl)
theorem dX2_limit_21 : decode cX2_limit 21 = .ok (.iload_n 2, 1) := dk_28 (dk_at dksX2_limit_0 21 rfl rfl)
theorem dX2_limit_22 : decode cX2_limit 22 = .ok (.iconst 1, 1) := dk_4 (dk_at dksX2_limit_0 22 rfl rfl)
theorem dX2_limit_23 : decode cX2_limit 23 = .ok (.if_icmp .le 39, 3) := dk_164 0 39 (dk_at dksX2_limit_1 0 rfl rfl)
theorem dX2_limit_26 : decode cX2_limit 26 = .ok (.lload 4, 2) := dk_22 4 (dk_at dksX2_limit_1 3 rfl rfl)
theorem dX2_limit_28 : decode cX2_limit 28 = .ok (.lload 6, 2) := dk_22 6 (dk_at dksX2_limit_1 5 rfl rfl)
theorem dX2_limit_30 : decode cX2_limit 30 = .ok (.lcmp, 1) := dk_148 (dk_at dksX2_limit_1 7 rfl rfl)
theorem dX2_limit_31 : decode cX2_limit 31 = .ok (.ifCond .gt 31, 3) := dk_157 0 31 (dk_at dksX2_limit_1 8 rfl rfl)
theorem dX2_limit_34 : decode cX2_limit 34 = .ok (.iinc 3 1, 3) := dk_132 3 1 (dk_at dksX2_limit_1 11 rfl rfl)
theorem dX2_limit_37 : decode cX2_limit 37 = .ok (.lload 4, 2) := dk_22 4 (dk_at dksX2_limit_1 14 rfl rfl)
theorem dX2_limit_39 : decode cX2_limit 39 = .ok (.aload_n 0, 1) := dk_42 (dk_at dksX2_limit_1 16 rfl rfl)
theorem dX2_limit_40 : decode cX2_limit 40 = .ok (.iload_n 1, 1) := dk_27 (dk_at dksX2_limit_1 17 rfl rfl)
theorem dX2_limit_41 : decode cX2_limit 41 = .ok (.invokevirtual 158, 3) := dk_182 0 158 (dk_at dksX2_limit_1 18 rfl rfl)
theorem dX2_limit_44 : decode cX2_limit 44 = .ok (.i2l, 1) := dk_133 (dk_at dksX2_limit_1 21 rfl rfl)
theorem dX2_limit_45 : decode cX2_limit 45 = .ok (.lmul, 1) := dk_105 (dk_at dksX2_limit_1 22 rfl rfl)
theorem dX2_limit_46 : decode cX2_limit 46 = .ok (.lstore 4, 2) := dk_55 4 (dk_at dksX2_limit_2 0 rfl rfl)
theorem dX2_limit_48 : decode cX2_limit 48 = .ok (.lload 6, 2) := dk_22 6 (dk_at dksX2_limit_2 2 rfl rfl)
theorem dX2_limit_50 : decode cX2_limit 50 = .ok (.aload_n 0, 1) := dk_42 (dk_at dksX2_limit_2 4 rfl rfl)
theorem dX2_limit_51 : decode cX2_limit 51 = .ok (.iload_n 1, 1) := dk_27 (dk_at dksX2_limit_2 5 rfl rfl)
theorem dX2_limit_52 : decode cX2_limit 52 = .ok (.invokevirtual 161, 3) := dk_182 0 161 (dk_at dksX2_limit_2 6 rfl rfl)
theorem dX2_limit_55 : decode cX2_limit 55 = .ok (.i2l, 1) := dk_133 (dk_at dksX2_limit_2 9 rfl rfl)
theorem dX2_limit_56 : decode cX2_limit 56 = .ok (.lmul, 1) := dk_105 (dk_at dksX2_limit_2 10 rfl rfl)
theorem dX2_limit_57 : decode cX2_limit 57 = .ok (.lstore 6, 2) := dk_55 6 (dk_at dksX2_limit_2 11 rfl rfl)
theorem dX2_limit_59 : decode cX2_limit 59 = .ok (.goto (-38), 3) := dk_167 255 218 (dk_at dksX2_limit_2 13 rfl rfl)
theorem dX2_limit_62 : decode cX2_limit 62 = .ok (.iload_n 3, 1) := dk_29 (dk_at dksX2_limit_2 16 rfl rfl)
theorem dX2_limit_63 : decode cX2_limit 63 = .ok (.ireturn, 1) := dk_172 (dk_at dksX2_limit_2 17 rfl rfl)
abbrev cX2_b : ByteArray := prog_11_method_15_code
def yX2_b : MethodName := ⟨RX2, "b", "(I)I"⟩
def dkwX2_b_0 : List UInt8 := [27, 154, 0, 10, 42, 180, 0, 144, 167, 0, 7, 42, 180, 0, 147, 172]
abbrev dktX2_b_0 : List UInt8 := dkwX2_b_0 ++ []
theorem dksX2_b_0 : cX2_b.data.toList.drop 0 = dktX2_b_0 := by decide +kernel
theorem dX2_b_0 : decode cX2_b 0 = .ok (.iload_n 1, 1) := dk_27 (dk_at dksX2_b_0 0 rfl rfl)
theorem dX2_b_1 : decode cX2_b 1 = .ok (.ifCond .ne 10, 3) := dk_154 0 10 (dk_at dksX2_b_0 1 rfl rfl)
theorem dX2_b_4 : decode cX2_b 4 = .ok (.aload_n 0, 1) := dk_42 (dk_at dksX2_b_0 4 rfl rfl)
theorem dX2_b_5 : decode cX2_b 5 = .ok (.getfield 144, 3) := dk_180 0 144 (dk_at dksX2_b_0 5 rfl rfl)
theorem dX2_b_8 : decode cX2_b 8 = .ok (.goto 7, 3) := dk_167 0 7 (dk_at dksX2_b_0 8 rfl rfl)
theorem dX2_b_11 : decode cX2_b 11 = .ok (.aload_n 0, 1) := dk_42 (dk_at dksX2_b_0 11 rfl rfl)
theorem dX2_b_12 : decode cX2_b 12 = .ok (.getfield 147, 3) := dk_180 0 147 (dk_at dksX2_b_0 12 rfl rfl)
theorem dX2_b_15 : decode cX2_b 15 = .ok (.ireturn, 1) := dk_172 (dk_at dksX2_b_0 15 rfl rfl)
abbrev cX2_a : ByteArray := prog_11_method_14_code
def yX2_a : MethodName := ⟨RX2, "a", "(I)I"⟩
def dkwX2_a_0 : List UInt8 := [27, 154, 0, 10, 42, 180, 0, 138, 167, 0, 7, 42, 180, 0, 141, 172]
abbrev dktX2_a_0 : List UInt8 := dkwX2_a_0 ++ []
theorem dksX2_a_0 : cX2_a.data.toList.drop 0 = dktX2_a_0 := by decide +kernel
theorem dX2_a_0 : decode cX2_a 0 = .ok (.iload_n 1, 1) := dk_27 (dk_at dksX2_a_0 0 rfl rfl)
theorem dX2_a_1 : decode cX2_a 1 = .ok (.ifCond .ne 10, 3) := dk_154 0 10 (dk_at dksX2_a_0 1 rfl rfl)
theorem dX2_a_4 : decode cX2_a 4 = .ok (.aload_n 0, 1) := dk_42 (dk_at dksX2_a_0 4 rfl rfl)
theorem dX2_a_5 : decode cX2_a 5 = .ok (.getfield 138, 3) := dk_180 0 138 (dk_at dksX2_a_0 5 rfl rfl)
theorem dX2_a_8 : decode cX2_a 8 = .ok (.goto 7, 3) := dk_167 0 7 (dk_at dksX2_a_0 8 rfl rfl)
theorem dX2_a_11 : decode cX2_a 11 = .ok (.aload_n 0, 1) := dk_42 (dk_at dksX2_a_0 11 rfl rfl)
theorem dX2_a_12 : decode cX2_a 12 = .ok (.getfield 141, 3) := dk_180 0 141 (dk_at dksX2_a_0 12 rfl rfl)
theorem dX2_a_15 : decode cX2_a 15 = .ok (.ireturn, 1) := dk_172 (dk_at dksX2_a_0 15 rfl rfl)
abbrev cX2_isLopsided : ByteArray := prog_11_method_29_code
def yX2_isLopsided : MethodName := ⟨RX2, "isLopsided", "(II)Z"⟩
def dkwX2_isLopsided_2 : List UInt8 := [180, 0, 16, 16, 100, 27, 104, 28, 96, 46, 182, 0, 168, 104, 29, 164, 0, 7, 4, 167, 0, 4, 3, 172]
abbrev dktX2_isLopsided_2 : List UInt8 := dkwX2_isLopsided_2 ++ []
def dkwX2_isLopsided_1 : List UInt8 := [16, 100, 27, 104, 28, 96, 46, 182, 0, 168, 104, 29, 163, 0, 29, 42, 27, 182, 0, 158, 42, 27, 42]
abbrev dktX2_isLopsided_1 : List UInt8 := dkwX2_isLopsided_1 ++ dktX2_isLopsided_2
def dkwX2_isLopsided_0 : List UInt8 := [42, 27, 182, 0, 161, 42, 27, 28, 182, 0, 168, 104, 62, 42, 27, 182, 0, 158, 42, 27, 42, 180, 0, 13]
abbrev dktX2_isLopsided_0 : List UInt8 := dkwX2_isLopsided_0 ++ dktX2_isLopsided_1
theorem dksX2_isLopsided_0 : cX2_isLopsided.data.toList.drop 0 = dktX2_isLopsided_0 := by decide +kernel
theorem dksX2_isLopsided_1 : cX2_isLopsided.data.toList.drop 24 = dktX2_isLopsided_1 := dk_seg dksX2_isLopsided_0 24 rfl rfl
theorem dksX2_isLopsided_2 : cX2_isLopsided.data.toList.drop 47 = dktX2_isLopsided_2 := dk_seg dksX2_isLopsided_1 23 rfl rfl
theorem dX2_isLopsided_0 : decode cX2_isLopsided 0 = .ok (.aload_n 0, 1) := dk_42 (dk_at dksX2_isLopsided_0 0 rfl rfl)
theorem dX2_isLopsided_1 : decode cX2_isLopsided 1 = .ok (.iload_n 1, 1) := dk_27 (dk_at dksX2_isLopsided_0 1 rfl rfl)
theorem dX2_isLopsided_2 : decode cX2_isLopsided 2 = .ok (.invokevirtual 161, 3) := dk_182 0 161 (dk_at dksX2_isLopsided_0 2 rfl rfl)
theorem dX2_isLopsided_5 : decode cX2_isLopsided 5 = .ok (.aload_n 0, 1) := dk_42 (dk_at dksX2_isLopsided_0 5 rfl rfl)
theorem dX2_isLopsided_6 : decode cX2_isLopsided 6 = .ok (.iload_n 1, 1) := dk_27 (dk_at dksX2_isLopsided_0 6 rfl rfl)
theorem dX2_isLopsided_7 : decode cX2_isLopsided 7 = .ok (.iload_n 2, 1) := dk_28 (dk_at dksX2_isLopsided_0 7 rfl rfl)
theorem dX2_isLopsided_8 : decode cX2_isLopsided 8 = .ok (.invokevirtual 168, 3) := dk_182 0 168 (dk_at dksX2_isLopsided_0 8 rfl rfl)
theorem dX2_isLopsided_11 : decode cX2_isLopsided 11 = .ok (.imul, 1) := dk_104 (dk_at dksX2_isLopsided_0 11 rfl rfl)
theorem dX2_isLopsided_12 : decode cX2_isLopsided 12 = .ok (.istore_n 3, 1) := dk_62 (dk_at dksX2_isLopsided_0 12 rfl rfl)
theorem dX2_isLopsided_13 : decode cX2_isLopsided 13 = .ok (.aload_n 0, 1) := dk_42 (dk_at dksX2_isLopsided_0 13 rfl rfl)
theorem dX2_isLopsided_14 : decode cX2_isLopsided 14 = .ok (.iload_n 1, 1) := dk_27 (dk_at dksX2_isLopsided_0 14 rfl rfl)
theorem dX2_isLopsided_15 : decode cX2_isLopsided 15 = .ok (.invokevirtual 158, 3) := dk_182 0 158 (dk_at dksX2_isLopsided_0 15 rfl rfl)
theorem dX2_isLopsided_18 : decode cX2_isLopsided 18 = .ok (.aload_n 0, 1) := dk_42 (dk_at dksX2_isLopsided_0 18 rfl rfl)
theorem dX2_isLopsided_19 : decode cX2_isLopsided 19 = .ok (.iload_n 1, 1) := dk_27 (dk_at dksX2_isLopsided_0 19 rfl rfl)
theorem dX2_isLopsided_20 : decode cX2_isLopsided 20 = .ok (.aload_n 0, 1) := dk_42 (dk_at dksX2_isLopsided_0 20 rfl rfl)
theorem dX2_isLopsided_21 : decode cX2_isLopsided 21 = .ok (.getfield 13, 3) := dk_180 0 13 (dk_at dksX2_isLopsided_0 21 rfl rfl)
theorem dX2_isLopsided_24 : decode cX2_isLopsided 24 = .ok (.bipush 100, 2) := dk_16 100 (dk_at dksX2_isLopsided_1 0 rfl rfl)
theorem dX2_isLopsided_26 : decode cX2_isLopsided 26 = .ok (.iload_n 1, 1) := dk_27 (dk_at dksX2_isLopsided_1 2 rfl rfl)
theorem dX2_isLopsided_27 : decode cX2_isLopsided 27 = .ok (.imul, 1) := dk_104 (dk_at dksX2_isLopsided_1 3 rfl rfl)
theorem dX2_isLopsided_28 : decode cX2_isLopsided 28 = .ok (.iload_n 2, 1) := dk_28 (dk_at dksX2_isLopsided_1 4 rfl rfl)
theorem dX2_isLopsided_29 : decode cX2_isLopsided 29 = .ok (.iadd, 1) := dk_96 (dk_at dksX2_isLopsided_1 5 rfl rfl)
theorem dX2_isLopsided_30 : decode cX2_isLopsided 30 = .ok (.iaload, 1) := dk_46 (dk_at dksX2_isLopsided_1 6 rfl rfl)
theorem dX2_isLopsided_31 : decode cX2_isLopsided 31 = .ok (.invokevirtual 168, 3) := dk_182 0 168 (dk_at dksX2_isLopsided_1 7 rfl rfl)
theorem dX2_isLopsided_34 : decode cX2_isLopsided 34 = .ok (.imul, 1) := dk_104 (dk_at dksX2_isLopsided_1 10 rfl rfl)
theorem dX2_isLopsided_35 : decode cX2_isLopsided 35 = .ok (.iload_n 3, 1) := dk_29 (dk_at dksX2_isLopsided_1 11 rfl rfl)
theorem dX2_isLopsided_36 : decode cX2_isLopsided 36 = .ok (.if_icmp .gt 29, 3) := dk_163 0 29 (dk_at dksX2_isLopsided_1 12 rfl rfl)
theorem dX2_isLopsided_39 : decode cX2_isLopsided 39 = .ok (.aload_n 0, 1) := dk_42 (dk_at dksX2_isLopsided_1 15 rfl rfl)
theorem dX2_isLopsided_40 : decode cX2_isLopsided 40 = .ok (.iload_n 1, 1) := dk_27 (dk_at dksX2_isLopsided_1 16 rfl rfl)
theorem dX2_isLopsided_41 : decode cX2_isLopsided 41 = .ok (.invokevirtual 158, 3) := dk_182 0 158 (dk_at dksX2_isLopsided_1 17 rfl rfl)
theorem dX2_isLopsided_44 : decode cX2_isLopsided 44 = .ok (.aload_n 0, 1) := dk_42 (dk_at dksX2_isLopsided_1 20 rfl rfl)
theorem dX2_isLopsided_45 : decode cX2_isLopsided 45 = .ok (.iload_n 1, 1) := dk_27 (dk_at dksX2_isLopsided_1 21 rfl rfl)
theorem dX2_isLopsided_46 : decode cX2_isLopsided 46 = .ok (.aload_n 0, 1) := dk_42 (dk_at dksX2_isLopsided_1 22 rfl rfl)
theorem dX2_isLopsided_47 : decode cX2_isLopsided 47 = .ok (.getfield 16, 3) := dk_180 0 16 (dk_at dksX2_isLopsided_2 0 rfl rfl)
theorem dX2_isLopsided_50 : decode cX2_isLopsided 50 = .ok (.bipush 100, 2) := dk_16 100 (dk_at dksX2_isLopsided_2 3 rfl rfl)
theorem dX2_isLopsided_52 : decode cX2_isLopsided 52 = .ok (.iload_n 1, 1) := dk_27 (dk_at dksX2_isLopsided_2 5 rfl rfl)
theorem dX2_isLopsided_53 : decode cX2_isLopsided 53 = .ok (.imul, 1) := dk_104 (dk_at dksX2_isLopsided_2 6 rfl rfl)
theorem dX2_isLopsided_54 : decode cX2_isLopsided 54 = .ok (.iload_n 2, 1) := dk_28 (dk_at dksX2_isLopsided_2 7 rfl rfl)
theorem dX2_isLopsided_55 : decode cX2_isLopsided 55 = .ok (.iadd, 1) := dk_96 (dk_at dksX2_isLopsided_2 8 rfl rfl)
theorem dX2_isLopsided_56 : decode cX2_isLopsided 56 = .ok (.iaload, 1) := dk_46 (dk_at dksX2_isLopsided_2 9 rfl rfl)
theorem dX2_isLopsided_57 : decode cX2_isLopsided 57 = .ok (.invokevirtual 168, 3) := dk_182 0 168 (dk_at dksX2_isLopsided_2 10 rfl rfl)
theorem dX2_isLopsided_60 : decode cX2_isLopsided 60 = .ok (.imul, 1) := dk_104 (dk_at dksX2_isLopsided_2 13 rfl rfl)
theorem dX2_isLopsided_61 : decode cX2_isLopsided 61 = .ok (.iload_n 3, 1) := dk_29 (dk_at dksX2_isLopsided_2 14 rfl rfl)
theorem dX2_isLopsided_62 : decode cX2_isLopsided 62 = .ok (.if_icmp .le 7, 3) := dk_164 0 7 (dk_at dksX2_isLopsided_2 15 rfl rfl)
theorem dX2_isLopsided_65 : decode cX2_isLopsided 65 = .ok (.iconst 1, 1) := dk_4 (dk_at dksX2_isLopsided_2 18 rfl rfl)
theorem dX2_isLopsided_66 : decode cX2_isLopsided 66 = .ok (.goto 4, 3) := dk_167 0 4 (dk_at dksX2_isLopsided_2 19 rfl rfl)
theorem dX2_isLopsided_69 : decode cX2_isLopsided 69 = .ok (.iconst 0, 1) := dk_3 (dk_at dksX2_isLopsided_2 22 rfl rfl)
theorem dX2_isLopsided_70 : decode cX2_isLopsided 70 = .ok (.ireturn, 1) := dk_172 (dk_at dksX2_isLopsided_2 23 rfl rfl)
abbrev cX2_size : ByteArray := prog_11_method_20_code
def yX2_size : MethodName := ⟨RX2, "size", "(II)I"⟩
def dkwX2_size_2 : List UInt8 := [167, 0, 4, 3, 96, 62, 132, 4, 1, 167, 255, 206, 29, 172]
abbrev dktX2_size_2 : List UInt8 := dkwX2_size_2 ++ []
def dkwX2_size_1 : List UInt8 := [27, 104, 21, 4, 96, 46, 4, 160, 0, 18, 42, 27, 21, 4, 28, 182, 0, 150, 153, 0, 7, 4]
abbrev dktX2_size_1 : List UInt8 := dkwX2_size_1 ++ dktX2_size_2
def dkwX2_size_0 : List UInt8 := [3, 62, 3, 54, 4, 21, 4, 16, 100, 162, 0, 49, 28, 2, 159, 0, 44, 29, 42, 180, 0, 22, 16, 100]
abbrev dktX2_size_0 : List UInt8 := dkwX2_size_0 ++ dktX2_size_1
theorem dksX2_size_0 : cX2_size.data.toList.drop 0 = dktX2_size_0 := by decide +kernel
theorem dksX2_size_1 : cX2_size.data.toList.drop 24 = dktX2_size_1 := dk_seg dksX2_size_0 24 rfl rfl
theorem dksX2_size_2 : cX2_size.data.toList.drop 46 = dktX2_size_2 := dk_seg dksX2_size_1 22 rfl rfl
theorem dX2_size_0 : decode cX2_size 0 = .ok (.iconst 0, 1) := dk_3 (dk_at dksX2_size_0 0 rfl rfl)
theorem dX2_size_1 : decode cX2_size 1 = .ok (.istore_n 3, 1) := dk_62 (dk_at dksX2_size_0 1 rfl rfl)
theorem dX2_size_2 : decode cX2_size 2 = .ok (.iconst 0, 1) := dk_3 (dk_at dksX2_size_0 2 rfl rfl)
theorem dX2_size_3 : decode cX2_size 3 = .ok (.istore 4, 2) := dk_54 4 (dk_at dksX2_size_0 3 rfl rfl)
theorem dX2_size_5 : decode cX2_size 5 = .ok (.iload 4, 2) := dk_21 4 (dk_at dksX2_size_0 5 rfl rfl)
theorem dX2_size_7 : decode cX2_size 7 = .ok (.bipush 100, 2) := dk_16 100 (dk_at dksX2_size_0 7 rfl rfl)
theorem dX2_size_9 : decode cX2_size 9 = .ok (.if_icmp .ge 49, 3) := dk_162 0 49 (dk_at dksX2_size_0 9 rfl rfl)
theorem dX2_size_12 : decode cX2_size 12 = .ok (.iload_n 2, 1) := dk_28 (dk_at dksX2_size_0 12 rfl rfl)
theorem dX2_size_13 : decode cX2_size 13 = .ok (.iconst (-1), 1) := dk_2 (dk_at dksX2_size_0 13 rfl rfl)
theorem dX2_size_14 : decode cX2_size 14 = .ok (.if_icmp .eq 44, 3) := dk_159 0 44 (dk_at dksX2_size_0 14 rfl rfl)
theorem dX2_size_17 : decode cX2_size 17 = .ok (.iload_n 3, 1) := dk_29 (dk_at dksX2_size_0 17 rfl rfl)
theorem dX2_size_18 : decode cX2_size 18 = .ok (.aload_n 0, 1) := dk_42 (dk_at dksX2_size_0 18 rfl rfl)
theorem dX2_size_19 : decode cX2_size 19 = .ok (.getfield 22, 3) := dk_180 0 22 (dk_at dksX2_size_0 19 rfl rfl)
theorem dX2_size_22 : decode cX2_size 22 = .ok (.bipush 100, 2) := dk_16 100 (dk_at dksX2_size_0 22 rfl rfl)
theorem dX2_size_24 : decode cX2_size 24 = .ok (.iload_n 1, 1) := dk_27 (dk_at dksX2_size_1 0 rfl rfl)
theorem dX2_size_25 : decode cX2_size 25 = .ok (.imul, 1) := dk_104 (dk_at dksX2_size_1 1 rfl rfl)
theorem dX2_size_26 : decode cX2_size 26 = .ok (.iload 4, 2) := dk_21 4 (dk_at dksX2_size_1 2 rfl rfl)
theorem dX2_size_28 : decode cX2_size 28 = .ok (.iadd, 1) := dk_96 (dk_at dksX2_size_1 4 rfl rfl)
theorem dX2_size_29 : decode cX2_size 29 = .ok (.iaload, 1) := dk_46 (dk_at dksX2_size_1 5 rfl rfl)
theorem dX2_size_30 : decode cX2_size 30 = .ok (.iconst 1, 1) := dk_4 (dk_at dksX2_size_1 6 rfl rfl)
theorem dX2_size_31 : decode cX2_size 31 = .ok (.if_icmp .ne 18, 3) := dk_160 0 18 (dk_at dksX2_size_1 7 rfl rfl)
theorem dX2_size_34 : decode cX2_size 34 = .ok (.aload_n 0, 1) := dk_42 (dk_at dksX2_size_1 10 rfl rfl)
theorem dX2_size_35 : decode cX2_size 35 = .ok (.iload_n 1, 1) := dk_27 (dk_at dksX2_size_1 11 rfl rfl)
theorem dX2_size_36 : decode cX2_size 36 = .ok (.iload 4, 2) := dk_21 4 (dk_at dksX2_size_1 12 rfl rfl)
theorem dX2_size_38 : decode cX2_size 38 = .ok (.iload_n 2, 1) := dk_28 (dk_at dksX2_size_1 14 rfl rfl)
theorem dX2_size_39 : decode cX2_size 39 = .ok (.invokevirtual 150, 3) := dk_182 0 150 (dk_at dksX2_size_1 15 rfl rfl)
theorem dX2_size_42 : decode cX2_size 42 = .ok (.ifCond .eq 7, 3) := dk_153 0 7 (dk_at dksX2_size_1 18 rfl rfl)
theorem dX2_size_45 : decode cX2_size 45 = .ok (.iconst 1, 1) := dk_4 (dk_at dksX2_size_1 21 rfl rfl)
theorem dX2_size_46 : decode cX2_size 46 = .ok (.goto 4, 3) := dk_167 0 4 (dk_at dksX2_size_2 0 rfl rfl)
theorem dX2_size_49 : decode cX2_size 49 = .ok (.iconst 0, 1) := dk_3 (dk_at dksX2_size_2 3 rfl rfl)
theorem dX2_size_50 : decode cX2_size 50 = .ok (.iadd, 1) := dk_96 (dk_at dksX2_size_2 4 rfl rfl)
theorem dX2_size_51 : decode cX2_size 51 = .ok (.istore_n 3, 1) := dk_62 (dk_at dksX2_size_2 5 rfl rfl)
theorem dX2_size_52 : decode cX2_size 52 = .ok (.iinc 4 1, 3) := dk_132 4 1 (dk_at dksX2_size_2 6 rfl rfl)
theorem dX2_size_55 : decode cX2_size 55 = .ok (.goto (-50), 3) := dk_167 255 206 (dk_at dksX2_size_2 9 rfl rfl)
theorem dX2_size_58 : decode cX2_size 58 = .ok (.iload_n 3, 1) := dk_29 (dk_at dksX2_size_2 12 rfl rfl)
theorem dX2_size_59 : decode cX2_size 59 = .ok (.ireturn, 1) := dk_172 (dk_at dksX2_size_2 13 rfl rfl)
abbrev cX2_isBelow : ByteArray := prog_11_method_19_code
def yX2_isBelow : MethodName := ⟨RX2, "isBelow", "(III)Z"⟩
def dkwX2_isBelow_1 : List UInt8 := [21, 4, 96, 46, 54, 4, 167, 255, 230, 21, 4, 29, 160, 0, 7, 4, 167, 0, 4, 3, 172]
abbrev dktX2_isBelow_1 : List UInt8 := dkwX2_isBelow_1 ++ []
def dkwX2_isBelow_0 : List UInt8 := [28, 54, 4, 21, 4, 2, 159, 0, 26, 21, 4, 29, 159, 0, 20, 42, 180, 0, 19, 16, 100, 27, 104]
abbrev dktX2_isBelow_0 : List UInt8 := dkwX2_isBelow_0 ++ dktX2_isBelow_1
theorem dksX2_isBelow_0 : cX2_isBelow.data.toList.drop 0 = dktX2_isBelow_0 := by decide +kernel
theorem dksX2_isBelow_1 : cX2_isBelow.data.toList.drop 23 = dktX2_isBelow_1 := dk_seg dksX2_isBelow_0 23 rfl rfl
theorem dX2_isBelow_0 : decode cX2_isBelow 0 = .ok (.iload_n 2, 1) := dk_28 (dk_at dksX2_isBelow_0 0 rfl rfl)
theorem dX2_isBelow_1 : decode cX2_isBelow 1 = .ok (.istore 4, 2) := dk_54 4 (dk_at dksX2_isBelow_0 1 rfl rfl)
theorem dX2_isBelow_3 : decode cX2_isBelow 3 = .ok (.iload 4, 2) := dk_21 4 (dk_at dksX2_isBelow_0 3 rfl rfl)
theorem dX2_isBelow_5 : decode cX2_isBelow 5 = .ok (.iconst (-1), 1) := dk_2 (dk_at dksX2_isBelow_0 5 rfl rfl)
theorem dX2_isBelow_6 : decode cX2_isBelow 6 = .ok (.if_icmp .eq 26, 3) := dk_159 0 26 (dk_at dksX2_isBelow_0 6 rfl rfl)
theorem dX2_isBelow_9 : decode cX2_isBelow 9 = .ok (.iload 4, 2) := dk_21 4 (dk_at dksX2_isBelow_0 9 rfl rfl)
theorem dX2_isBelow_11 : decode cX2_isBelow 11 = .ok (.iload_n 3, 1) := dk_29 (dk_at dksX2_isBelow_0 11 rfl rfl)
theorem dX2_isBelow_12 : decode cX2_isBelow 12 = .ok (.if_icmp .eq 20, 3) := dk_159 0 20 (dk_at dksX2_isBelow_0 12 rfl rfl)
theorem dX2_isBelow_15 : decode cX2_isBelow 15 = .ok (.aload_n 0, 1) := dk_42 (dk_at dksX2_isBelow_0 15 rfl rfl)
theorem dX2_isBelow_16 : decode cX2_isBelow 16 = .ok (.getfield 19, 3) := dk_180 0 19 (dk_at dksX2_isBelow_0 16 rfl rfl)
theorem dX2_isBelow_19 : decode cX2_isBelow 19 = .ok (.bipush 100, 2) := dk_16 100 (dk_at dksX2_isBelow_0 19 rfl rfl)
theorem dX2_isBelow_21 : decode cX2_isBelow 21 = .ok (.iload_n 1, 1) := dk_27 (dk_at dksX2_isBelow_0 21 rfl rfl)
theorem dX2_isBelow_22 : decode cX2_isBelow 22 = .ok (.imul, 1) := dk_104 (dk_at dksX2_isBelow_0 22 rfl rfl)
theorem dX2_isBelow_23 : decode cX2_isBelow 23 = .ok (.iload 4, 2) := dk_21 4 (dk_at dksX2_isBelow_1 0 rfl rfl)
theorem dX2_isBelow_25 : decode cX2_isBelow 25 = .ok (.iadd, 1) := dk_96 (dk_at dksX2_isBelow_1 2 rfl rfl)
theorem dX2_isBelow_26 : decode cX2_isBelow 26 = .ok (.iaload, 1) := dk_46 (dk_at dksX2_isBelow_1 3 rfl rfl)
theorem dX2_isBelow_27 : decode cX2_isBelow 27 = .ok (.istore 4, 2) := dk_54 4 (dk_at dksX2_isBelow_1 4 rfl rfl)
theorem dX2_isBelow_29 : decode cX2_isBelow 29 = .ok (.goto (-26), 3) := dk_167 255 230 (dk_at dksX2_isBelow_1 6 rfl rfl)
theorem dX2_isBelow_32 : decode cX2_isBelow 32 = .ok (.iload 4, 2) := dk_21 4 (dk_at dksX2_isBelow_1 9 rfl rfl)
theorem dX2_isBelow_34 : decode cX2_isBelow 34 = .ok (.iload_n 3, 1) := dk_29 (dk_at dksX2_isBelow_1 11 rfl rfl)
theorem dX2_isBelow_35 : decode cX2_isBelow 35 = .ok (.if_icmp .ne 7, 3) := dk_160 0 7 (dk_at dksX2_isBelow_1 12 rfl rfl)
theorem dX2_isBelow_38 : decode cX2_isBelow 38 = .ok (.iconst 1, 1) := dk_4 (dk_at dksX2_isBelow_1 15 rfl rfl)
theorem dX2_isBelow_39 : decode cX2_isBelow 39 = .ok (.goto 4, 3) := dk_167 0 4 (dk_at dksX2_isBelow_1 16 rfl rfl)
theorem dX2_isBelow_42 : decode cX2_isBelow 42 = .ok (.iconst 0, 1) := dk_3 (dk_at dksX2_isBelow_1 19 rfl rfl)
theorem dX2_isBelow_43 : decode cX2_isBelow 43 = .ok (.ireturn, 1) := dk_172 (dk_at dksX2_isBelow_1 20 rfl rfl)
abbrev cX2_build : ByteArray := prog_11_method_26_code
def yX2_build : MethodName := ⟨RX2, "build", "(II)V"⟩
def dkwX2_build_14 : List UInt8 := [96, 79, 42, 27, 3, 42, 180, 0, 171, 100, 182, 0, 181, 177]
abbrev dktX2_build_14 : List UInt8 := dkwX2_build_14 ++ []
def dkwX2_build_13 : List UInt8 := [167, 255, 39, 42, 180, 0, 34, 27, 92, 46, 4, 96, 79, 42, 180, 0, 37, 27, 92, 46, 42, 180, 0, 171]
abbrev dktX2_build_13 : List UInt8 := dkwX2_build_13 ++ dktX2_build_14
def dkwX2_build_12 : List UInt8 := [180, 0, 55, 21, 5, 21, 8, 79, 42, 180, 0, 58, 21, 5, 21, 10, 79, 132, 5, 1, 132, 6, 1]
abbrev dktX2_build_12 : List UInt8 := dkwX2_build_12 ++ dktX2_build_13
def dkwX2_build_11 : List UInt8 := [79, 132, 5, 1, 21, 9, 21, 8, 162, 0, 35, 42, 180, 0, 52, 21, 5, 21, 9, 4, 96, 79, 42]
abbrev dktX2_build_11 : List UInt8 := dkwX2_build_11 ++ dktX2_build_12
def dkwX2_build_10 : List UInt8 := [21, 5, 21, 7, 79, 42, 180, 0, 55, 21, 5, 21, 9, 4, 100, 79, 42, 180, 0, 58, 21, 5, 21, 10]
abbrev dktX2_build_10 : List UInt8 := dkwX2_build_10 ++ dktX2_build_11
def dkwX2_build_9 : List UInt8 := [96, 21, 8, 96, 5, 108, 46, 167, 0, 4, 2, 79, 21, 7, 21, 9, 162, 0, 35, 42, 180, 0, 52]
abbrev dktX2_build_9 : List UInt8 := dkwX2_build_9 ++ dktX2_build_10
def dkwX2_build_8 : List UInt8 := [180, 0, 16, 16, 100, 27, 104, 21, 10, 96, 21, 9, 21, 8, 162, 0, 20, 42, 180, 0, 49, 21, 9, 4]
abbrev dktX2_build_8 : List UInt8 := dkwX2_build_8 ++ dktX2_build_9
def dkwX2_build_7 : List UInt8 := [162, 0, 20, 42, 180, 0, 49, 21, 7, 21, 9, 96, 4, 100, 5, 108, 46, 167, 0, 4, 2, 79, 42]
abbrev dktX2_build_7 : List UInt8 := dkwX2_build_7 ++ dktX2_build_8
def dkwX2_build_6 : List UInt8 := [180, 0, 58, 21, 6, 46, 79, 42, 180, 0, 13, 16, 100, 27, 104, 21, 10, 96, 21, 7, 21, 9]
abbrev dktX2_build_6 : List UInt8 := dkwX2_build_6 ++ dktX2_build_7
def dkwX2_build_5 : List UInt8 := [108, 54, 9, 42, 180, 0, 49, 21, 9, 46, 54, 10, 42, 180, 0, 19, 16, 100, 27, 104, 21, 10, 96, 42]
abbrev dktX2_build_5 : List UInt8 := dkwX2_build_5 ++ dktX2_build_6
def dkwX2_build_4 : List UInt8 := [42, 180, 0, 52, 21, 6, 46, 54, 7, 42, 180, 0, 55, 21, 6, 46, 54, 8, 21, 7, 21, 8, 96, 5]
abbrev dktX2_build_4 : List UInt8 := dkwX2_build_4 ++ dktX2_build_5
def dkwX2_build_3 : List UInt8 := [180, 0, 171, 4, 100, 79, 42, 180, 0, 58, 3, 21, 4, 79, 3, 54, 6, 21, 6, 21, 5, 162, 0, 216]
abbrev dktX2_build_3 : List UInt8 := dkwX2_build_3 ++ dktX2_build_4
def dkwX2_build_2 : List UInt8 := [42, 27, 28, 29, 182, 0, 178, 4, 54, 5, 42, 180, 0, 52, 3, 3, 79, 42, 180, 0, 55, 3, 42]
abbrev dktX2_build_2 : List UInt8 := dkwX2_build_2 ++ dktX2_build_3
def dkwX2_build_1 : List UInt8 := [4, 100, 5, 108, 46, 62, 42, 180, 0, 19, 16, 100, 27, 104, 28, 96, 46, 54, 4, 29, 28, 159, 0, 10]
abbrev dktX2_build_1 : List UInt8 := dkwX2_build_1 ++ dktX2_build_2
def dkwX2_build_0 : List UInt8 := [42, 42, 27, 28, 182, 0, 168, 181, 0, 171, 42, 27, 28, 182, 0, 174, 42, 180, 0, 49, 42, 180, 0, 171]
abbrev dktX2_build_0 : List UInt8 := dkwX2_build_0 ++ dktX2_build_1
theorem dksX2_build_0 : cX2_build.data.toList.drop 0 = dktX2_build_0 := by decide +kernel
theorem dksX2_build_1 : cX2_build.data.toList.drop 24 = dktX2_build_1 := dk_seg dksX2_build_0 24 rfl rfl
theorem dksX2_build_2 : cX2_build.data.toList.drop 48 = dktX2_build_2 := dk_seg dksX2_build_1 24 rfl rfl
theorem dksX2_build_3 : cX2_build.data.toList.drop 71 = dktX2_build_3 := dk_seg dksX2_build_2 23 rfl rfl
theorem dksX2_build_4 : cX2_build.data.toList.drop 95 = dktX2_build_4 := dk_seg dksX2_build_3 24 rfl rfl
theorem dksX2_build_5 : cX2_build.data.toList.drop 119 = dktX2_build_5 := dk_seg dksX2_build_4 24 rfl rfl
theorem dksX2_build_6 : cX2_build.data.toList.drop 143 = dktX2_build_6 := dk_seg dksX2_build_5 24 rfl rfl
theorem dksX2_build_7 : cX2_build.data.toList.drop 165 = dktX2_build_7 := dk_seg dksX2_build_6 22 rfl rfl
theorem dksX2_build_8 : cX2_build.data.toList.drop 188 = dktX2_build_8 := dk_seg dksX2_build_7 23 rfl rfl
theorem dksX2_build_9 : cX2_build.data.toList.drop 212 = dktX2_build_9 := dk_seg dksX2_build_8 24 rfl rfl
theorem dksX2_build_10 : cX2_build.data.toList.drop 235 = dktX2_build_10 := dk_seg dksX2_build_9 23 rfl rfl
theorem dksX2_build_11 : cX2_build.data.toList.drop 259 = dktX2_build_11 := dk_seg dksX2_build_10 24 rfl rfl
theorem dksX2_build_12 : cX2_build.data.toList.drop 282 = dktX2_build_12 := dk_seg dksX2_build_11 23 rfl rfl
theorem dksX2_build_13 : cX2_build.data.toList.drop 305 = dktX2_build_13 := dk_seg dksX2_build_12 23 rfl rfl
theorem dksX2_build_14 : cX2_build.data.toList.drop 329 = dktX2_build_14 := dk_seg dksX2_build_13 24 rfl rfl
theorem dX2_build_0 : decode cX2_build 0 = .ok (.aload_n 0, 1) := dk_42 (dk_at dksX2_build_0 0 rfl rfl)
theorem dX2_build_1 : decode cX2_build 1 = .ok (.aload_n 0, 1) := dk_42 (dk_at dksX2_build_0 1 rfl rfl)
theorem dX2_build_2 : decode cX2_build 2 = .ok (.iload_n 1, 1) := dk_27 (dk_at dksX2_build_0 2 rfl rfl)
theorem dX2_build_3 : decode cX2_build 3 = .ok (.iload_n 2, 1) := dk_28 (dk_at dksX2_build_0 3 rfl rfl)
theorem dX2_build_4 : decode cX2_build 4 = .ok (.invokevirtual 168, 3) := dk_182 0 168 (dk_at dksX2_build_0 4 rfl rfl)
theorem dX2_build_7 : decode cX2_build 7 = .ok (.putfield 171, 3) := dk_181 0 171 (dk_at dksX2_build_0 7 rfl rfl)
theorem dX2_build_10 : decode cX2_build 10 = .ok (.aload_n 0, 1) := dk_42 (dk_at dksX2_build_0 10 rfl rfl)
theorem dX2_build_11 : decode cX2_build 11 = .ok (.iload_n 1, 1) := dk_27 (dk_at dksX2_build_0 11 rfl rfl)
theorem dX2_build_12 : decode cX2_build 12 = .ok (.iload_n 2, 1) := dk_28 (dk_at dksX2_build_0 12 rfl rfl)
theorem dX2_build_13 : decode cX2_build 13 = .ok (.invokevirtual 174, 3) := dk_182 0 174 (dk_at dksX2_build_0 13 rfl rfl)
theorem dX2_build_16 : decode cX2_build 16 = .ok (.aload_n 0, 1) := dk_42 (dk_at dksX2_build_0 16 rfl rfl)
theorem dX2_build_17 : decode cX2_build 17 = .ok (.getfield 49, 3) := dk_180 0 49 (dk_at dksX2_build_0 17 rfl rfl)
theorem dX2_build_20 : decode cX2_build 20 = .ok (.aload_n 0, 1) := dk_42 (dk_at dksX2_build_0 20 rfl rfl)
theorem dX2_build_21 : decode cX2_build 21 = .ok (.getfield 171, 3) := dk_180 0 171 (dk_at dksX2_build_0 21 rfl rfl)
theorem dX2_build_24 : decode cX2_build 24 = .ok (.iconst 1, 1) := dk_4 (dk_at dksX2_build_1 0 rfl rfl)
theorem dX2_build_25 : decode cX2_build 25 = .ok (.isub, 1) := dk_100 (dk_at dksX2_build_1 1 rfl rfl)
theorem dX2_build_26 : decode cX2_build 26 = .ok (.iconst 2, 1) := dk_5 (dk_at dksX2_build_1 2 rfl rfl)
theorem dX2_build_27 : decode cX2_build 27 = .ok (.idiv, 1) := dk_108 (dk_at dksX2_build_1 3 rfl rfl)
theorem dX2_build_28 : decode cX2_build 28 = .ok (.iaload, 1) := dk_46 (dk_at dksX2_build_1 4 rfl rfl)
theorem dX2_build_29 : decode cX2_build 29 = .ok (.istore_n 3, 1) := dk_62 (dk_at dksX2_build_1 5 rfl rfl)
theorem dX2_build_30 : decode cX2_build 30 = .ok (.aload_n 0, 1) := dk_42 (dk_at dksX2_build_1 6 rfl rfl)
theorem dX2_build_31 : decode cX2_build 31 = .ok (.getfield 19, 3) := dk_180 0 19 (dk_at dksX2_build_1 7 rfl rfl)
theorem dX2_build_34 : decode cX2_build 34 = .ok (.bipush 100, 2) := dk_16 100 (dk_at dksX2_build_1 10 rfl rfl)
theorem dX2_build_36 : decode cX2_build 36 = .ok (.iload_n 1, 1) := dk_27 (dk_at dksX2_build_1 12 rfl rfl)
theorem dX2_build_37 : decode cX2_build 37 = .ok (.imul, 1) := dk_104 (dk_at dksX2_build_1 13 rfl rfl)
theorem dX2_build_38 : decode cX2_build 38 = .ok (.iload_n 2, 1) := dk_28 (dk_at dksX2_build_1 14 rfl rfl)
theorem dX2_build_39 : decode cX2_build 39 = .ok (.iadd, 1) := dk_96 (dk_at dksX2_build_1 15 rfl rfl)
theorem dX2_build_40 : decode cX2_build 40 = .ok (.iaload, 1) := dk_46 (dk_at dksX2_build_1 16 rfl rfl)
theorem dX2_build_41 : decode cX2_build 41 = .ok (.istore 4, 2) := dk_54 4 (dk_at dksX2_build_1 17 rfl rfl)
theorem dX2_build_43 : decode cX2_build 43 = .ok (.iload_n 3, 1) := dk_29 (dk_at dksX2_build_1 19 rfl rfl)
theorem dX2_build_44 : decode cX2_build 44 = .ok (.iload_n 2, 1) := dk_28 (dk_at dksX2_build_1 20 rfl rfl)
theorem dX2_build_45 : decode cX2_build 45 = .ok (.if_icmp .eq 10, 3) := dk_159 0 10 (dk_at dksX2_build_1 21 rfl rfl)
theorem dX2_build_48 : decode cX2_build 48 = .ok (.aload_n 0, 1) := dk_42 (dk_at dksX2_build_2 0 rfl rfl)
theorem dX2_build_49 : decode cX2_build 49 = .ok (.iload_n 1, 1) := dk_27 (dk_at dksX2_build_2 1 rfl rfl)
theorem dX2_build_50 : decode cX2_build 50 = .ok (.iload_n 2, 1) := dk_28 (dk_at dksX2_build_2 2 rfl rfl)
theorem dX2_build_51 : decode cX2_build 51 = .ok (.iload_n 3, 1) := dk_29 (dk_at dksX2_build_2 3 rfl rfl)
theorem dX2_build_52 : decode cX2_build 52 = .ok (.invokevirtual 178, 3) := dk_182 0 178 (dk_at dksX2_build_2 4 rfl rfl)
theorem dX2_build_55 : decode cX2_build 55 = .ok (.iconst 1, 1) := dk_4 (dk_at dksX2_build_2 7 rfl rfl)
theorem dX2_build_56 : decode cX2_build 56 = .ok (.istore 5, 2) := dk_54 5 (dk_at dksX2_build_2 8 rfl rfl)
theorem dX2_build_58 : decode cX2_build 58 = .ok (.aload_n 0, 1) := dk_42 (dk_at dksX2_build_2 10 rfl rfl)
theorem dX2_build_59 : decode cX2_build 59 = .ok (.getfield 52, 3) := dk_180 0 52 (dk_at dksX2_build_2 11 rfl rfl)
theorem dX2_build_62 : decode cX2_build 62 = .ok (.iconst 0, 1) := dk_3 (dk_at dksX2_build_2 14 rfl rfl)
theorem dX2_build_63 : decode cX2_build 63 = .ok (.iconst 0, 1) := dk_3 (dk_at dksX2_build_2 15 rfl rfl)
theorem dX2_build_64 : decode cX2_build 64 = .ok (.iastore, 1) := dk_79 (dk_at dksX2_build_2 16 rfl rfl)
theorem dX2_build_65 : decode cX2_build 65 = .ok (.aload_n 0, 1) := dk_42 (dk_at dksX2_build_2 17 rfl rfl)
theorem dX2_build_66 : decode cX2_build 66 = .ok (.getfield 55, 3) := dk_180 0 55 (dk_at dksX2_build_2 18 rfl rfl)
theorem dX2_build_69 : decode cX2_build 69 = .ok (.iconst 0, 1) := dk_3 (dk_at dksX2_build_2 21 rfl rfl)
theorem dX2_build_70 : decode cX2_build 70 = .ok (.aload_n 0, 1) := dk_42 (dk_at dksX2_build_2 22 rfl rfl)
theorem dX2_build_71 : decode cX2_build 71 = .ok (.getfield 171, 3) := dk_180 0 171 (dk_at dksX2_build_3 0 rfl rfl)
theorem dX2_build_74 : decode cX2_build 74 = .ok (.iconst 1, 1) := dk_4 (dk_at dksX2_build_3 3 rfl rfl)
theorem dX2_build_75 : decode cX2_build 75 = .ok (.isub, 1) := dk_100 (dk_at dksX2_build_3 4 rfl rfl)
theorem dX2_build_76 : decode cX2_build 76 = .ok (.iastore, 1) := dk_79 (dk_at dksX2_build_3 5 rfl rfl)
theorem dX2_build_77 : decode cX2_build 77 = .ok (.aload_n 0, 1) := dk_42 (dk_at dksX2_build_3 6 rfl rfl)
theorem dX2_build_78 : decode cX2_build 78 = .ok (.getfield 58, 3) := dk_180 0 58 (dk_at dksX2_build_3 7 rfl rfl)
theorem dX2_build_81 : decode cX2_build 81 = .ok (.iconst 0, 1) := dk_3 (dk_at dksX2_build_3 10 rfl rfl)
theorem dX2_build_82 : decode cX2_build 82 = .ok (.iload 4, 2) := dk_21 4 (dk_at dksX2_build_3 11 rfl rfl)
theorem dX2_build_84 : decode cX2_build 84 = .ok (.iastore, 1) := dk_79 (dk_at dksX2_build_3 13 rfl rfl)
theorem dX2_build_85 : decode cX2_build 85 = .ok (.iconst 0, 1) := dk_3 (dk_at dksX2_build_3 14 rfl rfl)
theorem dX2_build_86 : decode cX2_build 86 = .ok (.istore 6, 2) := dk_54 6 (dk_at dksX2_build_3 15 rfl rfl)
theorem dX2_build_88 : decode cX2_build 88 = .ok (.iload 6, 2) := dk_21 6 (dk_at dksX2_build_3 17 rfl rfl)
theorem dX2_build_90 : decode cX2_build 90 = .ok (.iload 5, 2) := dk_21 5 (dk_at dksX2_build_3 19 rfl rfl)
theorem dX2_build_92 : decode cX2_build 92 = .ok (.if_icmp .ge 216, 3) := dk_162 0 216 (dk_at dksX2_build_3 21 rfl rfl)
theorem dX2_build_95 : decode cX2_build 95 = .ok (.aload_n 0, 1) := dk_42 (dk_at dksX2_build_4 0 rfl rfl)
theorem dX2_build_96 : decode cX2_build 96 = .ok (.getfield 52, 3) := dk_180 0 52 (dk_at dksX2_build_4 1 rfl rfl)
theorem dX2_build_99 : decode cX2_build 99 = .ok (.iload 6, 2) := dk_21 6 (dk_at dksX2_build_4 4 rfl rfl)
theorem dX2_build_101 : decode cX2_build 101 = .ok (.iaload, 1) := dk_46 (dk_at dksX2_build_4 6 rfl rfl)
theorem dX2_build_102 : decode cX2_build 102 = .ok (.istore 7, 2) := dk_54 7 (dk_at dksX2_build_4 7 rfl rfl)
theorem dX2_build_104 : decode cX2_build 104 = .ok (.aload_n 0, 1) := dk_42 (dk_at dksX2_build_4 9 rfl rfl)
theorem dX2_build_105 : decode cX2_build 105 = .ok (.getfield 55, 3) := dk_180 0 55 (dk_at dksX2_build_4 10 rfl rfl)
theorem dX2_build_108 : decode cX2_build 108 = .ok (.iload 6, 2) := dk_21 6 (dk_at dksX2_build_4 13 rfl rfl)
theorem dX2_build_110 : decode cX2_build 110 = .ok (.iaload, 1) := dk_46 (dk_at dksX2_build_4 15 rfl rfl)
theorem dX2_build_111 : decode cX2_build 111 = .ok (.istore 8, 2) := dk_54 8 (dk_at dksX2_build_4 16 rfl rfl)
theorem dX2_build_113 : decode cX2_build 113 = .ok (.iload 7, 2) := dk_21 7 (dk_at dksX2_build_4 18 rfl rfl)
theorem dX2_build_115 : decode cX2_build 115 = .ok (.iload 8, 2) := dk_21 8 (dk_at dksX2_build_4 20 rfl rfl)
theorem dX2_build_117 : decode cX2_build 117 = .ok (.iadd, 1) := dk_96 (dk_at dksX2_build_4 22 rfl rfl)
theorem dX2_build_118 : decode cX2_build 118 = .ok (.iconst 2, 1) := dk_5 (dk_at dksX2_build_4 23 rfl rfl)
theorem dX2_build_119 : decode cX2_build 119 = .ok (.idiv, 1) := dk_108 (dk_at dksX2_build_5 0 rfl rfl)
theorem dX2_build_120 : decode cX2_build 120 = .ok (.istore 9, 2) := dk_54 9 (dk_at dksX2_build_5 1 rfl rfl)
theorem dX2_build_122 : decode cX2_build 122 = .ok (.aload_n 0, 1) := dk_42 (dk_at dksX2_build_5 3 rfl rfl)
theorem dX2_build_123 : decode cX2_build 123 = .ok (.getfield 49, 3) := dk_180 0 49 (dk_at dksX2_build_5 4 rfl rfl)
theorem dX2_build_126 : decode cX2_build 126 = .ok (.iload 9, 2) := dk_21 9 (dk_at dksX2_build_5 7 rfl rfl)
theorem dX2_build_128 : decode cX2_build 128 = .ok (.iaload, 1) := dk_46 (dk_at dksX2_build_5 9 rfl rfl)
theorem dX2_build_129 : decode cX2_build 129 = .ok (.istore 10, 2) := dk_54 10 (dk_at dksX2_build_5 10 rfl rfl)
theorem dX2_build_131 : decode cX2_build 131 = .ok (.aload_n 0, 1) := dk_42 (dk_at dksX2_build_5 12 rfl rfl)
theorem dX2_build_132 : decode cX2_build 132 = .ok (.getfield 19, 3) := dk_180 0 19 (dk_at dksX2_build_5 13 rfl rfl)
theorem dX2_build_135 : decode cX2_build 135 = .ok (.bipush 100, 2) := dk_16 100 (dk_at dksX2_build_5 16 rfl rfl)
theorem dX2_build_137 : decode cX2_build 137 = .ok (.iload_n 1, 1) := dk_27 (dk_at dksX2_build_5 18 rfl rfl)
theorem dX2_build_138 : decode cX2_build 138 = .ok (.imul, 1) := dk_104 (dk_at dksX2_build_5 19 rfl rfl)
theorem dX2_build_139 : decode cX2_build 139 = .ok (.iload 10, 2) := dk_21 10 (dk_at dksX2_build_5 20 rfl rfl)
theorem dX2_build_141 : decode cX2_build 141 = .ok (.iadd, 1) := dk_96 (dk_at dksX2_build_5 22 rfl rfl)
theorem dX2_build_142 : decode cX2_build 142 = .ok (.aload_n 0, 1) := dk_42 (dk_at dksX2_build_5 23 rfl rfl)
theorem dX2_build_143 : decode cX2_build 143 = .ok (.getfield 58, 3) := dk_180 0 58 (dk_at dksX2_build_6 0 rfl rfl)
theorem dX2_build_146 : decode cX2_build 146 = .ok (.iload 6, 2) := dk_21 6 (dk_at dksX2_build_6 3 rfl rfl)
theorem dX2_build_148 : decode cX2_build 148 = .ok (.iaload, 1) := dk_46 (dk_at dksX2_build_6 5 rfl rfl)
theorem dX2_build_149 : decode cX2_build 149 = .ok (.iastore, 1) := dk_79 (dk_at dksX2_build_6 6 rfl rfl)
theorem dX2_build_150 : decode cX2_build 150 = .ok (.aload_n 0, 1) := dk_42 (dk_at dksX2_build_6 7 rfl rfl)
theorem dX2_build_151 : decode cX2_build 151 = .ok (.getfield 13, 3) := dk_180 0 13 (dk_at dksX2_build_6 8 rfl rfl)
theorem dX2_build_154 : decode cX2_build 154 = .ok (.bipush 100, 2) := dk_16 100 (dk_at dksX2_build_6 11 rfl rfl)
theorem dX2_build_156 : decode cX2_build 156 = .ok (.iload_n 1, 1) := dk_27 (dk_at dksX2_build_6 13 rfl rfl)
theorem dX2_build_157 : decode cX2_build 157 = .ok (.imul, 1) := dk_104 (dk_at dksX2_build_6 14 rfl rfl)
theorem dX2_build_158 : decode cX2_build 158 = .ok (.iload 10, 2) := dk_21 10 (dk_at dksX2_build_6 15 rfl rfl)
theorem dX2_build_160 : decode cX2_build 160 = .ok (.iadd, 1) := dk_96 (dk_at dksX2_build_6 17 rfl rfl)
theorem dX2_build_161 : decode cX2_build 161 = .ok (.iload 7, 2) := dk_21 7 (dk_at dksX2_build_6 18 rfl rfl)
theorem dX2_build_163 : decode cX2_build 163 = .ok (.iload 9, 2) := dk_21 9 (dk_at dksX2_build_6 20 rfl rfl)
theorem dX2_build_165 : decode cX2_build 165 = .ok (.if_icmp .ge 20, 3) := dk_162 0 20 (dk_at dksX2_build_7 0 rfl rfl)
theorem dX2_build_168 : decode cX2_build 168 = .ok (.aload_n 0, 1) := dk_42 (dk_at dksX2_build_7 3 rfl rfl)
theorem dX2_build_169 : decode cX2_build 169 = .ok (.getfield 49, 3) := dk_180 0 49 (dk_at dksX2_build_7 4 rfl rfl)
theorem dX2_build_172 : decode cX2_build 172 = .ok (.iload 7, 2) := dk_21 7 (dk_at dksX2_build_7 7 rfl rfl)
theorem dX2_build_174 : decode cX2_build 174 = .ok (.iload 9, 2) := dk_21 9 (dk_at dksX2_build_7 9 rfl rfl)
theorem dX2_build_176 : decode cX2_build 176 = .ok (.iadd, 1) := dk_96 (dk_at dksX2_build_7 11 rfl rfl)
theorem dX2_build_177 : decode cX2_build 177 = .ok (.iconst 1, 1) := dk_4 (dk_at dksX2_build_7 12 rfl rfl)
theorem dX2_build_178 : decode cX2_build 178 = .ok (.isub, 1) := dk_100 (dk_at dksX2_build_7 13 rfl rfl)
theorem dX2_build_179 : decode cX2_build 179 = .ok (.iconst 2, 1) := dk_5 (dk_at dksX2_build_7 14 rfl rfl)
theorem dX2_build_180 : decode cX2_build 180 = .ok (.idiv, 1) := dk_108 (dk_at dksX2_build_7 15 rfl rfl)
theorem dX2_build_181 : decode cX2_build 181 = .ok (.iaload, 1) := dk_46 (dk_at dksX2_build_7 16 rfl rfl)
theorem dX2_build_182 : decode cX2_build 182 = .ok (.goto 4, 3) := dk_167 0 4 (dk_at dksX2_build_7 17 rfl rfl)
theorem dX2_build_185 : decode cX2_build 185 = .ok (.iconst (-1), 1) := dk_2 (dk_at dksX2_build_7 20 rfl rfl)
theorem dX2_build_186 : decode cX2_build 186 = .ok (.iastore, 1) := dk_79 (dk_at dksX2_build_7 21 rfl rfl)
theorem dX2_build_187 : decode cX2_build 187 = .ok (.aload_n 0, 1) := dk_42 (dk_at dksX2_build_7 22 rfl rfl)
theorem dX2_build_188 : decode cX2_build 188 = .ok (.getfield 16, 3) := dk_180 0 16 (dk_at dksX2_build_8 0 rfl rfl)
theorem dX2_build_191 : decode cX2_build 191 = .ok (.bipush 100, 2) := dk_16 100 (dk_at dksX2_build_8 3 rfl rfl)
theorem dX2_build_193 : decode cX2_build 193 = .ok (.iload_n 1, 1) := dk_27 (dk_at dksX2_build_8 5 rfl rfl)
theorem dX2_build_194 : decode cX2_build 194 = .ok (.imul, 1) := dk_104 (dk_at dksX2_build_8 6 rfl rfl)
theorem dX2_build_195 : decode cX2_build 195 = .ok (.iload 10, 2) := dk_21 10 (dk_at dksX2_build_8 7 rfl rfl)
theorem dX2_build_197 : decode cX2_build 197 = .ok (.iadd, 1) := dk_96 (dk_at dksX2_build_8 9 rfl rfl)
theorem dX2_build_198 : decode cX2_build 198 = .ok (.iload 9, 2) := dk_21 9 (dk_at dksX2_build_8 10 rfl rfl)
theorem dX2_build_200 : decode cX2_build 200 = .ok (.iload 8, 2) := dk_21 8 (dk_at dksX2_build_8 12 rfl rfl)
theorem dX2_build_202 : decode cX2_build 202 = .ok (.if_icmp .ge 20, 3) := dk_162 0 20 (dk_at dksX2_build_8 14 rfl rfl)
theorem dX2_build_205 : decode cX2_build 205 = .ok (.aload_n 0, 1) := dk_42 (dk_at dksX2_build_8 17 rfl rfl)
theorem dX2_build_206 : decode cX2_build 206 = .ok (.getfield 49, 3) := dk_180 0 49 (dk_at dksX2_build_8 18 rfl rfl)
theorem dX2_build_209 : decode cX2_build 209 = .ok (.iload 9, 2) := dk_21 9 (dk_at dksX2_build_8 21 rfl rfl)
theorem dX2_build_211 : decode cX2_build 211 = .ok (.iconst 1, 1) := dk_4 (dk_at dksX2_build_8 23 rfl rfl)
theorem dX2_build_212 : decode cX2_build 212 = .ok (.iadd, 1) := dk_96 (dk_at dksX2_build_9 0 rfl rfl)
theorem dX2_build_213 : decode cX2_build 213 = .ok (.iload 8, 2) := dk_21 8 (dk_at dksX2_build_9 1 rfl rfl)
theorem dX2_build_215 : decode cX2_build 215 = .ok (.iadd, 1) := dk_96 (dk_at dksX2_build_9 3 rfl rfl)
theorem dX2_build_216 : decode cX2_build 216 = .ok (.iconst 2, 1) := dk_5 (dk_at dksX2_build_9 4 rfl rfl)
theorem dX2_build_217 : decode cX2_build 217 = .ok (.idiv, 1) := dk_108 (dk_at dksX2_build_9 5 rfl rfl)
theorem dX2_build_218 : decode cX2_build 218 = .ok (.iaload, 1) := dk_46 (dk_at dksX2_build_9 6 rfl rfl)
theorem dX2_build_219 : decode cX2_build 219 = .ok (.goto 4, 3) := dk_167 0 4 (dk_at dksX2_build_9 7 rfl rfl)
theorem dX2_build_222 : decode cX2_build 222 = .ok (.iconst (-1), 1) := dk_2 (dk_at dksX2_build_9 10 rfl rfl)
theorem dX2_build_223 : decode cX2_build 223 = .ok (.iastore, 1) := dk_79 (dk_at dksX2_build_9 11 rfl rfl)
theorem dX2_build_224 : decode cX2_build 224 = .ok (.iload 7, 2) := dk_21 7 (dk_at dksX2_build_9 12 rfl rfl)
theorem dX2_build_226 : decode cX2_build 226 = .ok (.iload 9, 2) := dk_21 9 (dk_at dksX2_build_9 14 rfl rfl)
theorem dX2_build_228 : decode cX2_build 228 = .ok (.if_icmp .ge 35, 3) := dk_162 0 35 (dk_at dksX2_build_9 16 rfl rfl)
theorem dX2_build_231 : decode cX2_build 231 = .ok (.aload_n 0, 1) := dk_42 (dk_at dksX2_build_9 19 rfl rfl)
theorem dX2_build_232 : decode cX2_build 232 = .ok (.getfield 52, 3) := dk_180 0 52 (dk_at dksX2_build_9 20 rfl rfl)
theorem dX2_build_235 : decode cX2_build 235 = .ok (.iload 5, 2) := dk_21 5 (dk_at dksX2_build_10 0 rfl rfl)
theorem dX2_build_237 : decode cX2_build 237 = .ok (.iload 7, 2) := dk_21 7 (dk_at dksX2_build_10 2 rfl rfl)
theorem dX2_build_239 : decode cX2_build 239 = .ok (.iastore, 1) := dk_79 (dk_at dksX2_build_10 4 rfl rfl)
theorem dX2_build_240 : decode cX2_build 240 = .ok (.aload_n 0, 1) := dk_42 (dk_at dksX2_build_10 5 rfl rfl)
theorem dX2_build_241 : decode cX2_build 241 = .ok (.getfield 55, 3) := dk_180 0 55 (dk_at dksX2_build_10 6 rfl rfl)
theorem dX2_build_244 : decode cX2_build 244 = .ok (.iload 5, 2) := dk_21 5 (dk_at dksX2_build_10 9 rfl rfl)
theorem dX2_build_246 : decode cX2_build 246 = .ok (.iload 9, 2) := dk_21 9 (dk_at dksX2_build_10 11 rfl rfl)
theorem dX2_build_248 : decode cX2_build 248 = .ok (.iconst 1, 1) := dk_4 (dk_at dksX2_build_10 13 rfl rfl)
theorem dX2_build_249 : decode cX2_build 249 = .ok (.isub, 1) := dk_100 (dk_at dksX2_build_10 14 rfl rfl)
theorem dX2_build_250 : decode cX2_build 250 = .ok (.iastore, 1) := dk_79 (dk_at dksX2_build_10 15 rfl rfl)
theorem dX2_build_251 : decode cX2_build 251 = .ok (.aload_n 0, 1) := dk_42 (dk_at dksX2_build_10 16 rfl rfl)
theorem dX2_build_252 : decode cX2_build 252 = .ok (.getfield 58, 3) := dk_180 0 58 (dk_at dksX2_build_10 17 rfl rfl)
theorem dX2_build_255 : decode cX2_build 255 = .ok (.iload 5, 2) := dk_21 5 (dk_at dksX2_build_10 20 rfl rfl)
theorem dX2_build_257 : decode cX2_build 257 = .ok (.iload 10, 2) := dk_21 10 (dk_at dksX2_build_10 22 rfl rfl)
theorem dX2_build_259 : decode cX2_build 259 = .ok (.iastore, 1) := dk_79 (dk_at dksX2_build_11 0 rfl rfl)
theorem dX2_build_260 : decode cX2_build 260 = .ok (.iinc 5 1, 3) := dk_132 5 1 (dk_at dksX2_build_11 1 rfl rfl)
theorem dX2_build_263 : decode cX2_build 263 = .ok (.iload 9, 2) := dk_21 9 (dk_at dksX2_build_11 4 rfl rfl)
theorem dX2_build_265 : decode cX2_build 265 = .ok (.iload 8, 2) := dk_21 8 (dk_at dksX2_build_11 6 rfl rfl)
theorem dX2_build_267 : decode cX2_build 267 = .ok (.if_icmp .ge 35, 3) := dk_162 0 35 (dk_at dksX2_build_11 8 rfl rfl)
theorem dX2_build_270 : decode cX2_build 270 = .ok (.aload_n 0, 1) := dk_42 (dk_at dksX2_build_11 11 rfl rfl)
theorem dX2_build_271 : decode cX2_build 271 = .ok (.getfield 52, 3) := dk_180 0 52 (dk_at dksX2_build_11 12 rfl rfl)
theorem dX2_build_274 : decode cX2_build 274 = .ok (.iload 5, 2) := dk_21 5 (dk_at dksX2_build_11 15 rfl rfl)
theorem dX2_build_276 : decode cX2_build 276 = .ok (.iload 9, 2) := dk_21 9 (dk_at dksX2_build_11 17 rfl rfl)
theorem dX2_build_278 : decode cX2_build 278 = .ok (.iconst 1, 1) := dk_4 (dk_at dksX2_build_11 19 rfl rfl)
theorem dX2_build_279 : decode cX2_build 279 = .ok (.iadd, 1) := dk_96 (dk_at dksX2_build_11 20 rfl rfl)
theorem dX2_build_280 : decode cX2_build 280 = .ok (.iastore, 1) := dk_79 (dk_at dksX2_build_11 21 rfl rfl)
theorem dX2_build_281 : decode cX2_build 281 = .ok (.aload_n 0, 1) := dk_42 (dk_at dksX2_build_11 22 rfl rfl)
theorem dX2_build_282 : decode cX2_build 282 = .ok (.getfield 55, 3) := dk_180 0 55 (dk_at dksX2_build_12 0 rfl rfl)
theorem dX2_build_285 : decode cX2_build 285 = .ok (.iload 5, 2) := dk_21 5 (dk_at dksX2_build_12 3 rfl rfl)
theorem dX2_build_287 : decode cX2_build 287 = .ok (.iload 8, 2) := dk_21 8 (dk_at dksX2_build_12 5 rfl rfl)
theorem dX2_build_289 : decode cX2_build 289 = .ok (.iastore, 1) := dk_79 (dk_at dksX2_build_12 7 rfl rfl)
theorem dX2_build_290 : decode cX2_build 290 = .ok (.aload_n 0, 1) := dk_42 (dk_at dksX2_build_12 8 rfl rfl)
theorem dX2_build_291 : decode cX2_build 291 = .ok (.getfield 58, 3) := dk_180 0 58 (dk_at dksX2_build_12 9 rfl rfl)
theorem dX2_build_294 : decode cX2_build 294 = .ok (.iload 5, 2) := dk_21 5 (dk_at dksX2_build_12 12 rfl rfl)
theorem dX2_build_296 : decode cX2_build 296 = .ok (.iload 10, 2) := dk_21 10 (dk_at dksX2_build_12 14 rfl rfl)
theorem dX2_build_298 : decode cX2_build 298 = .ok (.iastore, 1) := dk_79 (dk_at dksX2_build_12 16 rfl rfl)
theorem dX2_build_299 : decode cX2_build 299 = .ok (.iinc 5 1, 3) := dk_132 5 1 (dk_at dksX2_build_12 17 rfl rfl)
theorem dX2_build_302 : decode cX2_build 302 = .ok (.iinc 6 1, 3) := dk_132 6 1 (dk_at dksX2_build_12 20 rfl rfl)
theorem dX2_build_305 : decode cX2_build 305 = .ok (.goto (-217), 3) := dk_167 255 39 (dk_at dksX2_build_13 0 rfl rfl)
theorem dX2_build_308 : decode cX2_build 308 = .ok (.aload_n 0, 1) := dk_42 (dk_at dksX2_build_13 3 rfl rfl)
theorem dX2_build_309 : decode cX2_build 309 = .ok (.getfield 34, 3) := dk_180 0 34 (dk_at dksX2_build_13 4 rfl rfl)
theorem dX2_build_312 : decode cX2_build 312 = .ok (.iload_n 1, 1) := dk_27 (dk_at dksX2_build_13 7 rfl rfl)
theorem dX2_build_313 : decode cX2_build 313 = .ok (.dup2, 1) := dk_92 (dk_at dksX2_build_13 8 rfl rfl)
theorem dX2_build_314 : decode cX2_build 314 = .ok (.iaload, 1) := dk_46 (dk_at dksX2_build_13 9 rfl rfl)
theorem dX2_build_315 : decode cX2_build 315 = .ok (.iconst 1, 1) := dk_4 (dk_at dksX2_build_13 10 rfl rfl)
theorem dX2_build_316 : decode cX2_build 316 = .ok (.iadd, 1) := dk_96 (dk_at dksX2_build_13 11 rfl rfl)
theorem dX2_build_317 : decode cX2_build 317 = .ok (.iastore, 1) := dk_79 (dk_at dksX2_build_13 12 rfl rfl)
theorem dX2_build_318 : decode cX2_build 318 = .ok (.aload_n 0, 1) := dk_42 (dk_at dksX2_build_13 13 rfl rfl)
theorem dX2_build_319 : decode cX2_build 319 = .ok (.getfield 37, 3) := dk_180 0 37 (dk_at dksX2_build_13 14 rfl rfl)
theorem dX2_build_322 : decode cX2_build 322 = .ok (.iload_n 1, 1) := dk_27 (dk_at dksX2_build_13 17 rfl rfl)
theorem dX2_build_323 : decode cX2_build 323 = .ok (.dup2, 1) := dk_92 (dk_at dksX2_build_13 18 rfl rfl)
theorem dX2_build_324 : decode cX2_build 324 = .ok (.iaload, 1) := dk_46 (dk_at dksX2_build_13 19 rfl rfl)
theorem dX2_build_325 : decode cX2_build 325 = .ok (.aload_n 0, 1) := dk_42 (dk_at dksX2_build_13 20 rfl rfl)
theorem dX2_build_326 : decode cX2_build 326 = .ok (.getfield 171, 3) := dk_180 0 171 (dk_at dksX2_build_13 21 rfl rfl)
theorem dX2_build_329 : decode cX2_build 329 = .ok (.iadd, 1) := dk_96 (dk_at dksX2_build_14 0 rfl rfl)
theorem dX2_build_330 : decode cX2_build 330 = .ok (.iastore, 1) := dk_79 (dk_at dksX2_build_14 1 rfl rfl)
theorem dX2_build_331 : decode cX2_build 331 = .ok (.aload_n 0, 1) := dk_42 (dk_at dksX2_build_14 2 rfl rfl)
theorem dX2_build_332 : decode cX2_build 332 = .ok (.iload_n 1, 1) := dk_27 (dk_at dksX2_build_14 3 rfl rfl)
theorem dX2_build_333 : decode cX2_build 333 = .ok (.iconst 0, 1) := dk_3 (dk_at dksX2_build_14 4 rfl rfl)
theorem dX2_build_334 : decode cX2_build 334 = .ok (.aload_n 0, 1) := dk_42 (dk_at dksX2_build_14 5 rfl rfl)
theorem dX2_build_335 : decode cX2_build 335 = .ok (.getfield 171, 3) := dk_180 0 171 (dk_at dksX2_build_14 6 rfl rfl)
theorem dX2_build_338 : decode cX2_build 338 = .ok (.isub, 1) := dk_100 (dk_at dksX2_build_14 9 rfl rfl)
theorem dX2_build_339 : decode cX2_build 339 = .ok (.invokevirtual 181, 3) := dk_182 0 181 (dk_at dksX2_build_14 10 rfl rfl)
theorem dX2_build_342 : decode cX2_build 342 = .ok (.return_, 1) := dk_177 (dk_at dksX2_build_14 13 rfl rfl)
abbrev cX2_layRow : ByteArray := prog_11_method_24_code
def yX2_layRow : MethodName := ⟨RX2, "layRow", "(II)V"⟩
def dkwX2_layRow_2 : List UInt8 := [132, 3, 1, 132, 4, 1, 167, 255, 208, 177]
abbrev dktX2_layRow_2 : List UInt8 := dkwX2_layRow_2 ++ []
def dkwX2_layRow_1 : List UInt8 := [4, 160, 0, 25, 42, 27, 21, 4, 28, 182, 0, 150, 153, 0, 14, 42, 180, 0, 49, 29, 21, 4, 79]
abbrev dktX2_layRow_1 : List UInt8 := dkwX2_layRow_1 ++ dktX2_layRow_2
def dkwX2_layRow_0 : List UInt8 := [3, 62, 3, 54, 4, 21, 4, 16, 100, 162, 0, 47, 42, 180, 0, 22, 16, 100, 27, 104, 21, 4, 96, 46]
abbrev dktX2_layRow_0 : List UInt8 := dkwX2_layRow_0 ++ dktX2_layRow_1
theorem dksX2_layRow_0 : cX2_layRow.data.toList.drop 0 = dktX2_layRow_0 := by decide +kernel
theorem dksX2_layRow_1 : cX2_layRow.data.toList.drop 24 = dktX2_layRow_1 := dk_seg dksX2_layRow_0 24 rfl rfl
theorem dksX2_layRow_2 : cX2_layRow.data.toList.drop 47 = dktX2_layRow_2 := dk_seg dksX2_layRow_1 23 rfl rfl
theorem dX2_layRow_0 : decode cX2_layRow 0 = .ok (.iconst 0, 1) := dk_3 (dk_at dksX2_layRow_0 0 rfl rfl)
theorem dX2_layRow_1 : decode cX2_layRow 1 = .ok (.istore_n 3, 1) := dk_62 (dk_at dksX2_layRow_0 1 rfl rfl)
theorem dX2_layRow_2 : decode cX2_layRow 2 = .ok (.iconst 0, 1) := dk_3 (dk_at dksX2_layRow_0 2 rfl rfl)
theorem dX2_layRow_3 : decode cX2_layRow 3 = .ok (.istore 4, 2) := dk_54 4 (dk_at dksX2_layRow_0 3 rfl rfl)
theorem dX2_layRow_5 : decode cX2_layRow 5 = .ok (.iload 4, 2) := dk_21 4 (dk_at dksX2_layRow_0 5 rfl rfl)
theorem dX2_layRow_7 : decode cX2_layRow 7 = .ok (.bipush 100, 2) := dk_16 100 (dk_at dksX2_layRow_0 7 rfl rfl)
theorem dX2_layRow_9 : decode cX2_layRow 9 = .ok (.if_icmp .ge 47, 3) := dk_162 0 47 (dk_at dksX2_layRow_0 9 rfl rfl)
theorem dX2_layRow_12 : decode cX2_layRow 12 = .ok (.aload_n 0, 1) := dk_42 (dk_at dksX2_layRow_0 12 rfl rfl)
theorem dX2_layRow_13 : decode cX2_layRow 13 = .ok (.getfield 22, 3) := dk_180 0 22 (dk_at dksX2_layRow_0 13 rfl rfl)
theorem dX2_layRow_16 : decode cX2_layRow 16 = .ok (.bipush 100, 2) := dk_16 100 (dk_at dksX2_layRow_0 16 rfl rfl)
theorem dX2_layRow_18 : decode cX2_layRow 18 = .ok (.iload_n 1, 1) := dk_27 (dk_at dksX2_layRow_0 18 rfl rfl)
theorem dX2_layRow_19 : decode cX2_layRow 19 = .ok (.imul, 1) := dk_104 (dk_at dksX2_layRow_0 19 rfl rfl)
theorem dX2_layRow_20 : decode cX2_layRow 20 = .ok (.iload 4, 2) := dk_21 4 (dk_at dksX2_layRow_0 20 rfl rfl)
theorem dX2_layRow_22 : decode cX2_layRow 22 = .ok (.iadd, 1) := dk_96 (dk_at dksX2_layRow_0 22 rfl rfl)
theorem dX2_layRow_23 : decode cX2_layRow 23 = .ok (.iaload, 1) := dk_46 (dk_at dksX2_layRow_0 23 rfl rfl)
theorem dX2_layRow_24 : decode cX2_layRow 24 = .ok (.iconst 1, 1) := dk_4 (dk_at dksX2_layRow_1 0 rfl rfl)
theorem dX2_layRow_25 : decode cX2_layRow 25 = .ok (.if_icmp .ne 25, 3) := dk_160 0 25 (dk_at dksX2_layRow_1 1 rfl rfl)
theorem dX2_layRow_28 : decode cX2_layRow 28 = .ok (.aload_n 0, 1) := dk_42 (dk_at dksX2_layRow_1 4 rfl rfl)
theorem dX2_layRow_29 : decode cX2_layRow 29 = .ok (.iload_n 1, 1) := dk_27 (dk_at dksX2_layRow_1 5 rfl rfl)
theorem dX2_layRow_30 : decode cX2_layRow 30 = .ok (.iload 4, 2) := dk_21 4 (dk_at dksX2_layRow_1 6 rfl rfl)
theorem dX2_layRow_32 : decode cX2_layRow 32 = .ok (.iload_n 2, 1) := dk_28 (dk_at dksX2_layRow_1 8 rfl rfl)
theorem dX2_layRow_33 : decode cX2_layRow 33 = .ok (.invokevirtual 150, 3) := dk_182 0 150 (dk_at dksX2_layRow_1 9 rfl rfl)
theorem dX2_layRow_36 : decode cX2_layRow 36 = .ok (.ifCond .eq 14, 3) := dk_153 0 14 (dk_at dksX2_layRow_1 12 rfl rfl)
theorem dX2_layRow_39 : decode cX2_layRow 39 = .ok (.aload_n 0, 1) := dk_42 (dk_at dksX2_layRow_1 15 rfl rfl)
theorem dX2_layRow_40 : decode cX2_layRow 40 = .ok (.getfield 49, 3) := dk_180 0 49 (dk_at dksX2_layRow_1 16 rfl rfl)
theorem dX2_layRow_43 : decode cX2_layRow 43 = .ok (.iload_n 3, 1) := dk_29 (dk_at dksX2_layRow_1 19 rfl rfl)
theorem dX2_layRow_44 : decode cX2_layRow 44 = .ok (.iload 4, 2) := dk_21 4 (dk_at dksX2_layRow_1 20 rfl rfl)
theorem dX2_layRow_46 : decode cX2_layRow 46 = .ok (.iastore, 1) := dk_79 (dk_at dksX2_layRow_1 22 rfl rfl)
theorem dX2_layRow_47 : decode cX2_layRow 47 = .ok (.iinc 3 1, 3) := dk_132 3 1 (dk_at dksX2_layRow_2 0 rfl rfl)
theorem dX2_layRow_50 : decode cX2_layRow 50 = .ok (.iinc 4 1, 3) := dk_132 4 1 (dk_at dksX2_layRow_2 3 rfl rfl)
theorem dX2_layRow_53 : decode cX2_layRow 53 = .ok (.goto (-48), 3) := dk_167 255 208 (dk_at dksX2_layRow_2 6 rfl rfl)
theorem dX2_layRow_56 : decode cX2_layRow 56 = .ok (.return_, 1) := dk_177 (dk_at dksX2_layRow_2 9 rfl rfl)
abbrev cX2_replace : ByteArray := prog_11_method_25_code
def yX2_replace : MethodName := ⟨RX2, "replace", "(III)V"⟩
def dkwX2_replace_3 : List UInt8 := [27, 29, 21, 4, 182, 0, 164, 177]
abbrev dktX2_replace_3 : List UInt8 := dkwX2_replace_3 ++ []
def dkwX2_replace_2 : List UInt8 := [79, 167, 0, 22, 21, 4, 2, 159, 0, 16, 42, 180, 0, 16, 16, 100, 27, 104, 21, 4, 96, 29, 79, 42]
abbrev dktX2_replace_2 : List UInt8 := dkwX2_replace_2 ++ dktX2_replace_3
def dkwX2_replace_1 : List UInt8 := [16, 100, 27, 104, 21, 4, 96, 46, 28, 160, 0, 19, 42, 180, 0, 13, 16, 100, 27, 104, 21, 4, 96, 29]
abbrev dktX2_replace_1 : List UInt8 := dkwX2_replace_1 ++ dktX2_replace_2
def dkwX2_replace_0 : List UInt8 := [42, 180, 0, 19, 16, 100, 27, 104, 28, 96, 46, 54, 4, 21, 4, 2, 159, 0, 35, 42, 180, 0, 13]
abbrev dktX2_replace_0 : List UInt8 := dkwX2_replace_0 ++ dktX2_replace_1
theorem dksX2_replace_0 : cX2_replace.data.toList.drop 0 = dktX2_replace_0 := by decide +kernel
theorem dksX2_replace_1 : cX2_replace.data.toList.drop 23 = dktX2_replace_1 := dk_seg dksX2_replace_0 23 rfl rfl
theorem dksX2_replace_2 : cX2_replace.data.toList.drop 47 = dktX2_replace_2 := dk_seg dksX2_replace_1 24 rfl rfl
theorem dksX2_replace_3 : cX2_replace.data.toList.drop 71 = dktX2_replace_3 := dk_seg dksX2_replace_2 24 rfl rfl
theorem dX2_replace_0 : decode cX2_replace 0 = .ok (.aload_n 0, 1) := dk_42 (dk_at dksX2_replace_0 0 rfl rfl)
theorem dX2_replace_1 : decode cX2_replace 1 = .ok (.getfield 19, 3) := dk_180 0 19 (dk_at dksX2_replace_0 1 rfl rfl)
theorem dX2_replace_4 : decode cX2_replace 4 = .ok (.bipush 100, 2) := dk_16 100 (dk_at dksX2_replace_0 4 rfl rfl)
theorem dX2_replace_6 : decode cX2_replace 6 = .ok (.iload_n 1, 1) := dk_27 (dk_at dksX2_replace_0 6 rfl rfl)
theorem dX2_replace_7 : decode cX2_replace 7 = .ok (.imul, 1) := dk_104 (dk_at dksX2_replace_0 7 rfl rfl)
theorem dX2_replace_8 : decode cX2_replace 8 = .ok (.iload_n 2, 1) := dk_28 (dk_at dksX2_replace_0 8 rfl rfl)
theorem dX2_replace_9 : decode cX2_replace 9 = .ok (.iadd, 1) := dk_96 (dk_at dksX2_replace_0 9 rfl rfl)
theorem dX2_replace_10 : decode cX2_replace 10 = .ok (.iaload, 1) := dk_46 (dk_at dksX2_replace_0 10 rfl rfl)
theorem dX2_replace_11 : decode cX2_replace 11 = .ok (.istore 4, 2) := dk_54 4 (dk_at dksX2_replace_0 11 rfl rfl)
theorem dX2_replace_13 : decode cX2_replace 13 = .ok (.iload 4, 2) := dk_21 4 (dk_at dksX2_replace_0 13 rfl rfl)
theorem dX2_replace_15 : decode cX2_replace 15 = .ok (.iconst (-1), 1) := dk_2 (dk_at dksX2_replace_0 15 rfl rfl)
theorem dX2_replace_16 : decode cX2_replace 16 = .ok (.if_icmp .eq 35, 3) := dk_159 0 35 (dk_at dksX2_replace_0 16 rfl rfl)
theorem dX2_replace_19 : decode cX2_replace 19 = .ok (.aload_n 0, 1) := dk_42 (dk_at dksX2_replace_0 19 rfl rfl)
theorem dX2_replace_20 : decode cX2_replace 20 = .ok (.getfield 13, 3) := dk_180 0 13 (dk_at dksX2_replace_0 20 rfl rfl)
theorem dX2_replace_23 : decode cX2_replace 23 = .ok (.bipush 100, 2) := dk_16 100 (dk_at dksX2_replace_1 0 rfl rfl)
theorem dX2_replace_25 : decode cX2_replace 25 = .ok (.iload_n 1, 1) := dk_27 (dk_at dksX2_replace_1 2 rfl rfl)
theorem dX2_replace_26 : decode cX2_replace 26 = .ok (.imul, 1) := dk_104 (dk_at dksX2_replace_1 3 rfl rfl)
theorem dX2_replace_27 : decode cX2_replace 27 = .ok (.iload 4, 2) := dk_21 4 (dk_at dksX2_replace_1 4 rfl rfl)
theorem dX2_replace_29 : decode cX2_replace 29 = .ok (.iadd, 1) := dk_96 (dk_at dksX2_replace_1 6 rfl rfl)
theorem dX2_replace_30 : decode cX2_replace 30 = .ok (.iaload, 1) := dk_46 (dk_at dksX2_replace_1 7 rfl rfl)
theorem dX2_replace_31 : decode cX2_replace 31 = .ok (.iload_n 2, 1) := dk_28 (dk_at dksX2_replace_1 8 rfl rfl)
theorem dX2_replace_32 : decode cX2_replace 32 = .ok (.if_icmp .ne 19, 3) := dk_160 0 19 (dk_at dksX2_replace_1 9 rfl rfl)
theorem dX2_replace_35 : decode cX2_replace 35 = .ok (.aload_n 0, 1) := dk_42 (dk_at dksX2_replace_1 12 rfl rfl)
theorem dX2_replace_36 : decode cX2_replace 36 = .ok (.getfield 13, 3) := dk_180 0 13 (dk_at dksX2_replace_1 13 rfl rfl)
theorem dX2_replace_39 : decode cX2_replace 39 = .ok (.bipush 100, 2) := dk_16 100 (dk_at dksX2_replace_1 16 rfl rfl)
theorem dX2_replace_41 : decode cX2_replace 41 = .ok (.iload_n 1, 1) := dk_27 (dk_at dksX2_replace_1 18 rfl rfl)
theorem dX2_replace_42 : decode cX2_replace 42 = .ok (.imul, 1) := dk_104 (dk_at dksX2_replace_1 19 rfl rfl)
theorem dX2_replace_43 : decode cX2_replace 43 = .ok (.iload 4, 2) := dk_21 4 (dk_at dksX2_replace_1 20 rfl rfl)
theorem dX2_replace_45 : decode cX2_replace 45 = .ok (.iadd, 1) := dk_96 (dk_at dksX2_replace_1 22 rfl rfl)
theorem dX2_replace_46 : decode cX2_replace 46 = .ok (.iload_n 3, 1) := dk_29 (dk_at dksX2_replace_1 23 rfl rfl)
theorem dX2_replace_47 : decode cX2_replace 47 = .ok (.iastore, 1) := dk_79 (dk_at dksX2_replace_2 0 rfl rfl)
theorem dX2_replace_48 : decode cX2_replace 48 = .ok (.goto 22, 3) := dk_167 0 22 (dk_at dksX2_replace_2 1 rfl rfl)
theorem dX2_replace_51 : decode cX2_replace 51 = .ok (.iload 4, 2) := dk_21 4 (dk_at dksX2_replace_2 4 rfl rfl)
theorem dX2_replace_53 : decode cX2_replace 53 = .ok (.iconst (-1), 1) := dk_2 (dk_at dksX2_replace_2 6 rfl rfl)
theorem dX2_replace_54 : decode cX2_replace 54 = .ok (.if_icmp .eq 16, 3) := dk_159 0 16 (dk_at dksX2_replace_2 7 rfl rfl)
theorem dX2_replace_57 : decode cX2_replace 57 = .ok (.aload_n 0, 1) := dk_42 (dk_at dksX2_replace_2 10 rfl rfl)
theorem dX2_replace_58 : decode cX2_replace 58 = .ok (.getfield 16, 3) := dk_180 0 16 (dk_at dksX2_replace_2 11 rfl rfl)
theorem dX2_replace_61 : decode cX2_replace 61 = .ok (.bipush 100, 2) := dk_16 100 (dk_at dksX2_replace_2 14 rfl rfl)
theorem dX2_replace_63 : decode cX2_replace 63 = .ok (.iload_n 1, 1) := dk_27 (dk_at dksX2_replace_2 16 rfl rfl)
theorem dX2_replace_64 : decode cX2_replace 64 = .ok (.imul, 1) := dk_104 (dk_at dksX2_replace_2 17 rfl rfl)
theorem dX2_replace_65 : decode cX2_replace 65 = .ok (.iload 4, 2) := dk_21 4 (dk_at dksX2_replace_2 18 rfl rfl)
theorem dX2_replace_67 : decode cX2_replace 67 = .ok (.iadd, 1) := dk_96 (dk_at dksX2_replace_2 20 rfl rfl)
theorem dX2_replace_68 : decode cX2_replace 68 = .ok (.iload_n 3, 1) := dk_29 (dk_at dksX2_replace_2 21 rfl rfl)
theorem dX2_replace_69 : decode cX2_replace 69 = .ok (.iastore, 1) := dk_79 (dk_at dksX2_replace_2 22 rfl rfl)
theorem dX2_replace_70 : decode cX2_replace 70 = .ok (.aload_n 0, 1) := dk_42 (dk_at dksX2_replace_2 23 rfl rfl)
theorem dX2_replace_71 : decode cX2_replace 71 = .ok (.iload_n 1, 1) := dk_27 (dk_at dksX2_replace_3 0 rfl rfl)
theorem dX2_replace_72 : decode cX2_replace 72 = .ok (.iload_n 3, 1) := dk_29 (dk_at dksX2_replace_3 1 rfl rfl)
theorem dX2_replace_73 : decode cX2_replace 73 = .ok (.iload 4, 2) := dk_21 4 (dk_at dksX2_replace_3 2 rfl rfl)
theorem dX2_replace_75 : decode cX2_replace 75 = .ok (.invokevirtual 164, 3) := dk_182 0 164 (dk_at dksX2_replace_3 4 rfl rfl)
theorem dX2_replace_78 : decode cX2_replace 78 = .ok (.return_, 1) := dk_177 (dk_at dksX2_replace_3 7 rfl rfl)
abbrev cX2_write : ByteArray := prog_11_method_34_code
def yX2_write : MethodName := ⟨RX2, "write", "(I)V"⟩
def dkwX2_write_1 : List UInt8 := [4, 96, 181, 0, 211, 177]
abbrev dktX2_write_1 : List UInt8 := dkwX2_write_1 ++ []
def dkwX2_write_0 : List UInt8 := [42, 180, 0, 211, 16, 60, 162, 0, 23, 42, 180, 0, 46, 42, 180, 0, 211, 27, 79, 42, 89, 180, 0, 211]
abbrev dktX2_write_0 : List UInt8 := dkwX2_write_0 ++ dktX2_write_1
theorem dksX2_write_0 : cX2_write.data.toList.drop 0 = dktX2_write_0 := by decide +kernel
theorem dksX2_write_1 : cX2_write.data.toList.drop 24 = dktX2_write_1 := dk_seg dksX2_write_0 24 rfl rfl
theorem dX2_write_0 : decode cX2_write 0 = .ok (.aload_n 0, 1) := dk_42 (dk_at dksX2_write_0 0 rfl rfl)
theorem dX2_write_1 : decode cX2_write 1 = .ok (.getfield 211, 3) := dk_180 0 211 (dk_at dksX2_write_0 1 rfl rfl)
theorem dX2_write_4 : decode cX2_write 4 = .ok (.bipush 60, 2) := dk_16 60 (dk_at dksX2_write_0 4 rfl rfl)
theorem dX2_write_6 : decode cX2_write 6 = .ok (.if_icmp .ge 23, 3) := dk_162 0 23 (dk_at dksX2_write_0 6 rfl rfl)
theorem dX2_write_9 : decode cX2_write 9 = .ok (.aload_n 0, 1) := dk_42 (dk_at dksX2_write_0 9 rfl rfl)
theorem dX2_write_10 : decode cX2_write 10 = .ok (.getfield 46, 3) := dk_180 0 46 (dk_at dksX2_write_0 10 rfl rfl)
theorem dX2_write_13 : decode cX2_write 13 = .ok (.aload_n 0, 1) := dk_42 (dk_at dksX2_write_0 13 rfl rfl)
theorem dX2_write_14 : decode cX2_write 14 = .ok (.getfield 211, 3) := dk_180 0 211 (dk_at dksX2_write_0 14 rfl rfl)
theorem dX2_write_17 : decode cX2_write 17 = .ok (.iload_n 1, 1) := dk_27 (dk_at dksX2_write_0 17 rfl rfl)
theorem dX2_write_18 : decode cX2_write 18 = .ok (.iastore, 1) := dk_79 (dk_at dksX2_write_0 18 rfl rfl)
theorem dX2_write_19 : decode cX2_write 19 = .ok (.aload_n 0, 1) := dk_42 (dk_at dksX2_write_0 19 rfl rfl)
theorem dX2_write_20 : decode cX2_write 20 = .ok (.dup, 1) := dk_89 (dk_at dksX2_write_0 20 rfl rfl)
theorem dX2_write_21 : decode cX2_write 21 = .ok (.getfield 211, 3) := dk_180 0 211 (dk_at dksX2_write_0 21 rfl rfl)
theorem dX2_write_24 : decode cX2_write 24 = .ok (.iconst 1, 1) := dk_4 (dk_at dksX2_write_1 0 rfl rfl)
theorem dX2_write_25 : decode cX2_write 25 = .ok (.iadd, 1) := dk_96 (dk_at dksX2_write_1 1 rfl rfl)
theorem dX2_write_26 : decode cX2_write 26 = .ok (.putfield 211, 3) := dk_181 0 211 (dk_at dksX2_write_1 2 rfl rfl)
theorem dX2_write_29 : decode cX2_write 29 = .ok (.return_, 1) := dk_177 (dk_at dksX2_write_1 5 rfl rfl)
abbrev cX2_entry : ByteArray := prog_11_method_42_code
def yX2_entry : MethodName := ⟨RX2, "entry", "(II)I"⟩
def dkwX2_entry_0 : List UInt8 := [42, 27, 182, 0, 245, 153, 0, 12, 42, 27, 28, 182, 0, 248, 167, 0, 5, 16, 155, 172]
abbrev dktX2_entry_0 : List UInt8 := dkwX2_entry_0 ++ []
theorem dksX2_entry_0 : cX2_entry.data.toList.drop 0 = dktX2_entry_0 := by decide +kernel
theorem dX2_entry_0 : decode cX2_entry 0 = .ok (.aload_n 0, 1) := dk_42 (dk_at dksX2_entry_0 0 rfl rfl)
theorem dX2_entry_1 : decode cX2_entry 1 = .ok (.iload_n 1, 1) := dk_27 (dk_at dksX2_entry_0 1 rfl rfl)
theorem dX2_entry_2 : decode cX2_entry 2 = .ok (.invokevirtual 245, 3) := dk_182 0 245 (dk_at dksX2_entry_0 2 rfl rfl)
theorem dX2_entry_5 : decode cX2_entry 5 = .ok (.ifCond .eq 12, 3) := dk_153 0 12 (dk_at dksX2_entry_0 5 rfl rfl)
theorem dX2_entry_8 : decode cX2_entry 8 = .ok (.aload_n 0, 1) := dk_42 (dk_at dksX2_entry_0 8 rfl rfl)
theorem dX2_entry_9 : decode cX2_entry 9 = .ok (.iload_n 1, 1) := dk_27 (dk_at dksX2_entry_0 9 rfl rfl)
theorem dX2_entry_10 : decode cX2_entry 10 = .ok (.iload_n 2, 1) := dk_28 (dk_at dksX2_entry_0 10 rfl rfl)
theorem dX2_entry_11 : decode cX2_entry 11 = .ok (.invokevirtual 248, 3) := dk_182 0 248 (dk_at dksX2_entry_0 11 rfl rfl)
theorem dX2_entry_14 : decode cX2_entry 14 = .ok (.goto 5, 3) := dk_167 0 5 (dk_at dksX2_entry_0 14 rfl rfl)
theorem dX2_entry_17 : decode cX2_entry 17 = .ok (.bipush (-101), 2) := dk_16 155 (dk_at dksX2_entry_0 17 rfl rfl)
theorem dX2_entry_19 : decode cX2_entry 19 = .ok (.ireturn, 1) := dk_172 (dk_at dksX2_entry_0 19 rfl rfl)
abbrev cX2_isThere : ByteArray := prog_11_method_39_code
def yX2_isThere : MethodName := ⟨RX2, "isThere", "(I)Z"⟩
def dkwX2_isThere_1 : List UInt8 := [46, 4, 160, 0, 7, 4, 167, 0, 4, 3, 172]
abbrev dktX2_isThere_1 : List UInt8 := dkwX2_isThere_1 ++ []
def dkwX2_isThere_0 : List UInt8 := [42, 182, 0, 236, 154, 0, 29, 27, 133, 9, 20, 0, 240, 184, 0, 94, 153, 0, 17, 42, 180, 0, 22, 27]
abbrev dktX2_isThere_0 : List UInt8 := dkwX2_isThere_0 ++ dktX2_isThere_1
theorem dksX2_isThere_0 : cX2_isThere.data.toList.drop 0 = dktX2_isThere_0 := by decide +kernel
theorem dksX2_isThere_1 : cX2_isThere.data.toList.drop 24 = dktX2_isThere_1 := dk_seg dksX2_isThere_0 24 rfl rfl
theorem dX2_isThere_0 : decode cX2_isThere 0 = .ok (.aload_n 0, 1) := dk_42 (dk_at dksX2_isThere_0 0 rfl rfl)
theorem dX2_isThere_1 : decode cX2_isThere 1 = .ok (.invokevirtual 236, 3) := dk_182 0 236 (dk_at dksX2_isThere_0 1 rfl rfl)
theorem dX2_isThere_4 : decode cX2_isThere 4 = .ok (.ifCond .ne 29, 3) := dk_154 0 29 (dk_at dksX2_isThere_0 4 rfl rfl)
theorem dX2_isThere_7 : decode cX2_isThere 7 = .ok (.iload_n 1, 1) := dk_27 (dk_at dksX2_isThere_0 7 rfl rfl)
theorem dX2_isThere_8 : decode cX2_isThere 8 = .ok (.i2l, 1) := dk_133 (dk_at dksX2_isThere_0 8 rfl rfl)
theorem dX2_isThere_9 : decode cX2_isThere 9 = .ok (.lconst 0, 1) := dk_9 (dk_at dksX2_isThere_0 9 rfl rfl)
theorem dX2_isThere_10 : decode cX2_isThere 10 = .ok (.ldc2_w 240, 3) := dk_20 0 240 (dk_at dksX2_isThere_0 10 rfl rfl)
theorem dX2_isThere_13 : decode cX2_isThere 13 = .ok (.invokestatic 94, 3) := dk_184 0 94 (dk_at dksX2_isThere_0 13 rfl rfl)
theorem dX2_isThere_16 : decode cX2_isThere 16 = .ok (.ifCond .eq 17, 3) := dk_153 0 17 (dk_at dksX2_isThere_0 16 rfl rfl)
theorem dX2_isThere_19 : decode cX2_isThere 19 = .ok (.aload_n 0, 1) := dk_42 (dk_at dksX2_isThere_0 19 rfl rfl)
theorem dX2_isThere_20 : decode cX2_isThere 20 = .ok (.getfield 22, 3) := dk_180 0 22 (dk_at dksX2_isThere_0 20 rfl rfl)
theorem dX2_isThere_23 : decode cX2_isThere 23 = .ok (.iload_n 1, 1) := dk_27 (dk_at dksX2_isThere_0 23 rfl rfl)
theorem dX2_isThere_24 : decode cX2_isThere 24 = .ok (.iaload, 1) := dk_46 (dk_at dksX2_isThere_1 0 rfl rfl)
theorem dX2_isThere_25 : decode cX2_isThere 25 = .ok (.iconst 1, 1) := dk_4 (dk_at dksX2_isThere_1 1 rfl rfl)
theorem dX2_isThere_26 : decode cX2_isThere 26 = .ok (.if_icmp .ne 7, 3) := dk_160 0 7 (dk_at dksX2_isThere_1 2 rfl rfl)
theorem dX2_isThere_29 : decode cX2_isThere 29 = .ok (.iconst 1, 1) := dk_4 (dk_at dksX2_isThere_1 5 rfl rfl)
theorem dX2_isThere_30 : decode cX2_isThere 30 = .ok (.goto 4, 3) := dk_167 0 4 (dk_at dksX2_isThere_1 6 rfl rfl)
theorem dX2_isThere_33 : decode cX2_isThere 33 = .ok (.iconst 0, 1) := dk_3 (dk_at dksX2_isThere_1 9 rfl rfl)
theorem dX2_isThere_34 : decode cX2_isThere 34 = .ok (.ireturn, 1) := dk_172 (dk_at dksX2_isThere_1 10 rfl rfl)
abbrev cX2_lacks : ByteArray := prog_11_method_35_code
def yX2_lacks : MethodName := ⟨RX2, "lacks", "()Z"⟩
def dkwX2_lacks_0 : List UInt8 := [42, 180, 0, 144, 154, 0, 7, 4, 167, 0, 4, 3, 172]
abbrev dktX2_lacks_0 : List UInt8 := dkwX2_lacks_0 ++ []
theorem dksX2_lacks_0 : cX2_lacks.data.toList.drop 0 = dktX2_lacks_0 := by decide +kernel
theorem dX2_lacks_0 : decode cX2_lacks 0 = .ok (.aload_n 0, 1) := dk_42 (dk_at dksX2_lacks_0 0 rfl rfl)
theorem dX2_lacks_1 : decode cX2_lacks 1 = .ok (.getfield 144, 3) := dk_180 0 144 (dk_at dksX2_lacks_0 1 rfl rfl)
theorem dX2_lacks_4 : decode cX2_lacks 4 = .ok (.ifCond .ne 7, 3) := dk_154 0 7 (dk_at dksX2_lacks_0 4 rfl rfl)
theorem dX2_lacks_7 : decode cX2_lacks 7 = .ok (.iconst 1, 1) := dk_4 (dk_at dksX2_lacks_0 7 rfl rfl)
theorem dX2_lacks_8 : decode cX2_lacks 8 = .ok (.goto 4, 3) := dk_167 0 4 (dk_at dksX2_lacks_0 8 rfl rfl)
theorem dX2_lacks_11 : decode cX2_lacks 11 = .ok (.iconst 0, 1) := dk_3 (dk_at dksX2_lacks_0 11 rfl rfl)
theorem dX2_lacks_12 : decode cX2_lacks 12 = .ok (.ireturn, 1) := dk_172 (dk_at dksX2_lacks_0 12 rfl rfl)
abbrev cX2_tellEntry : ByteArray := prog_11_method_41_code
def yX2_tellEntry : MethodName := ⟨RX2, "tellEntry", "(II)I"⟩
def dkwX2_tellEntry_4 : List UInt8 := [172, 42, 27, 182, 0, 242, 172, 16, 154, 172]
abbrev dktX2_tellEntry_4 : List UInt8 := dkwX2_tellEntry_4 ++ []
def dkwX2_tellEntry_3 : List UInt8 := [182, 0, 168, 172, 42, 180, 0, 13, 27, 46, 172, 42, 180, 0, 16, 27, 46, 172, 42, 180, 0, 19, 27, 46]
abbrev dktX2_tellEntry_3 : List UInt8 := dkwX2_tellEntry_3 ++ dktX2_tellEntry_4
def dkwX2_tellEntry_2 : List UInt8 := [42, 180, 0, 40, 27, 46, 172, 42, 180, 0, 43, 27, 46, 172, 42, 3, 27, 182, 0, 154, 172, 42, 3, 27]
abbrev dktX2_tellEntry_2 : List UInt8 := dkwX2_tellEntry_2 ++ dktX2_tellEntry_3
def dkwX2_tellEntry_1 : List UInt8 := [170, 0, 0, 0, 0, 0, 102, 0, 0, 0, 0, 0, 0, 0, 7, 0, 0, 0, 47, 0, 0, 0, 54, 0, 0, 0, 61, 0, 0, 0, 68, 0, 0, 0, 75, 0, 0, 0, 82, 0, 0, 0, 89, 0, 0, 0, 96]
abbrev dktX2_tellEntry_1 : List UInt8 := dkwX2_tellEntry_1 ++ dktX2_tellEntry_2
def dkwX2_tellEntry_0 : List UInt8 := [28]
abbrev dktX2_tellEntry_0 : List UInt8 := dkwX2_tellEntry_0 ++ dktX2_tellEntry_1
theorem dksX2_tellEntry_0 : cX2_tellEntry.data.toList.drop 0 = dktX2_tellEntry_0 := by decide +kernel
theorem dksX2_tellEntry_1 : cX2_tellEntry.data.toList.drop 1 = dktX2_tellEntry_1 := dk_seg dksX2_tellEntry_0 1 rfl rfl
theorem dksX2_tellEntry_2 : cX2_tellEntry.data.toList.drop 48 = dktX2_tellEntry_2 := dk_seg dksX2_tellEntry_1 47 rfl rfl
theorem dksX2_tellEntry_3 : cX2_tellEntry.data.toList.drop 72 = dktX2_tellEntry_3 := dk_seg dksX2_tellEntry_2 24 rfl rfl
theorem dksX2_tellEntry_4 : cX2_tellEntry.data.toList.drop 96 = dktX2_tellEntry_4 := dk_seg dksX2_tellEntry_3 24 rfl rfl
theorem dX2_tellEntry_0 : decode cX2_tellEntry 0 = .ok (.iload_n 2, 1) := dk_28 (dk_at dksX2_tellEntry_0 0 rfl rfl)
theorem dX2_tellEntry_1 : decode cX2_tellEntry 1 = .ok (.tableswitch 102 0 7 #[47, 54, 61, 68, 75, 82, 89, 96], 47) := by decide +kernel
theorem dX2_tellEntry_48 : decode cX2_tellEntry 48 = .ok (.aload_n 0, 1) := dk_42 (dk_at dksX2_tellEntry_2 0 rfl rfl)
theorem dX2_tellEntry_49 : decode cX2_tellEntry 49 = .ok (.getfield 40, 3) := dk_180 0 40 (dk_at dksX2_tellEntry_2 1 rfl rfl)
theorem dX2_tellEntry_52 : decode cX2_tellEntry 52 = .ok (.iload_n 1, 1) := dk_27 (dk_at dksX2_tellEntry_2 4 rfl rfl)
theorem dX2_tellEntry_53 : decode cX2_tellEntry 53 = .ok (.iaload, 1) := dk_46 (dk_at dksX2_tellEntry_2 5 rfl rfl)
theorem dX2_tellEntry_54 : decode cX2_tellEntry 54 = .ok (.ireturn, 1) := dk_172 (dk_at dksX2_tellEntry_2 6 rfl rfl)
theorem dX2_tellEntry_55 : decode cX2_tellEntry 55 = .ok (.aload_n 0, 1) := dk_42 (dk_at dksX2_tellEntry_2 7 rfl rfl)
theorem dX2_tellEntry_56 : decode cX2_tellEntry 56 = .ok (.getfield 43, 3) := dk_180 0 43 (dk_at dksX2_tellEntry_2 8 rfl rfl)
theorem dX2_tellEntry_59 : decode cX2_tellEntry 59 = .ok (.iload_n 1, 1) := dk_27 (dk_at dksX2_tellEntry_2 11 rfl rfl)
theorem dX2_tellEntry_60 : decode cX2_tellEntry 60 = .ok (.iaload, 1) := dk_46 (dk_at dksX2_tellEntry_2 12 rfl rfl)
theorem dX2_tellEntry_61 : decode cX2_tellEntry 61 = .ok (.ireturn, 1) := dk_172 (dk_at dksX2_tellEntry_2 13 rfl rfl)
theorem dX2_tellEntry_62 : decode cX2_tellEntry 62 = .ok (.aload_n 0, 1) := dk_42 (dk_at dksX2_tellEntry_2 14 rfl rfl)
theorem dX2_tellEntry_63 : decode cX2_tellEntry 63 = .ok (.iconst 0, 1) := dk_3 (dk_at dksX2_tellEntry_2 15 rfl rfl)
theorem dX2_tellEntry_64 : decode cX2_tellEntry 64 = .ok (.iload_n 1, 1) := dk_27 (dk_at dksX2_tellEntry_2 16 rfl rfl)
theorem dX2_tellEntry_65 : decode cX2_tellEntry 65 = .ok (.invokevirtual 154, 3) := dk_182 0 154 (dk_at dksX2_tellEntry_2 17 rfl rfl)
theorem dX2_tellEntry_68 : decode cX2_tellEntry 68 = .ok (.ireturn, 1) := dk_172 (dk_at dksX2_tellEntry_2 20 rfl rfl)
theorem dX2_tellEntry_69 : decode cX2_tellEntry 69 = .ok (.aload_n 0, 1) := dk_42 (dk_at dksX2_tellEntry_2 21 rfl rfl)
theorem dX2_tellEntry_70 : decode cX2_tellEntry 70 = .ok (.iconst 0, 1) := dk_3 (dk_at dksX2_tellEntry_2 22 rfl rfl)
theorem dX2_tellEntry_71 : decode cX2_tellEntry 71 = .ok (.iload_n 1, 1) := dk_27 (dk_at dksX2_tellEntry_2 23 rfl rfl)
theorem dX2_tellEntry_72 : decode cX2_tellEntry 72 = .ok (.invokevirtual 168, 3) := dk_182 0 168 (dk_at dksX2_tellEntry_3 0 rfl rfl)
theorem dX2_tellEntry_75 : decode cX2_tellEntry 75 = .ok (.ireturn, 1) := dk_172 (dk_at dksX2_tellEntry_3 3 rfl rfl)
theorem dX2_tellEntry_76 : decode cX2_tellEntry 76 = .ok (.aload_n 0, 1) := dk_42 (dk_at dksX2_tellEntry_3 4 rfl rfl)
theorem dX2_tellEntry_77 : decode cX2_tellEntry 77 = .ok (.getfield 13, 3) := dk_180 0 13 (dk_at dksX2_tellEntry_3 5 rfl rfl)
theorem dX2_tellEntry_80 : decode cX2_tellEntry 80 = .ok (.iload_n 1, 1) := dk_27 (dk_at dksX2_tellEntry_3 8 rfl rfl)
theorem dX2_tellEntry_81 : decode cX2_tellEntry 81 = .ok (.iaload, 1) := dk_46 (dk_at dksX2_tellEntry_3 9 rfl rfl)
theorem dX2_tellEntry_82 : decode cX2_tellEntry 82 = .ok (.ireturn, 1) := dk_172 (dk_at dksX2_tellEntry_3 10 rfl rfl)
theorem dX2_tellEntry_83 : decode cX2_tellEntry 83 = .ok (.aload_n 0, 1) := dk_42 (dk_at dksX2_tellEntry_3 11 rfl rfl)
theorem dX2_tellEntry_84 : decode cX2_tellEntry 84 = .ok (.getfield 16, 3) := dk_180 0 16 (dk_at dksX2_tellEntry_3 12 rfl rfl)
theorem dX2_tellEntry_87 : decode cX2_tellEntry 87 = .ok (.iload_n 1, 1) := dk_27 (dk_at dksX2_tellEntry_3 15 rfl rfl)
theorem dX2_tellEntry_88 : decode cX2_tellEntry 88 = .ok (.iaload, 1) := dk_46 (dk_at dksX2_tellEntry_3 16 rfl rfl)
theorem dX2_tellEntry_89 : decode cX2_tellEntry 89 = .ok (.ireturn, 1) := dk_172 (dk_at dksX2_tellEntry_3 17 rfl rfl)
theorem dX2_tellEntry_90 : decode cX2_tellEntry 90 = .ok (.aload_n 0, 1) := dk_42 (dk_at dksX2_tellEntry_3 18 rfl rfl)
theorem dX2_tellEntry_91 : decode cX2_tellEntry 91 = .ok (.getfield 19, 3) := dk_180 0 19 (dk_at dksX2_tellEntry_3 19 rfl rfl)
theorem dX2_tellEntry_94 : decode cX2_tellEntry 94 = .ok (.iload_n 1, 1) := dk_27 (dk_at dksX2_tellEntry_3 22 rfl rfl)
theorem dX2_tellEntry_95 : decode cX2_tellEntry 95 = .ok (.iaload, 1) := dk_46 (dk_at dksX2_tellEntry_3 23 rfl rfl)
theorem dX2_tellEntry_96 : decode cX2_tellEntry 96 = .ok (.ireturn, 1) := dk_172 (dk_at dksX2_tellEntry_4 0 rfl rfl)
theorem dX2_tellEntry_97 : decode cX2_tellEntry 97 = .ok (.aload_n 0, 1) := dk_42 (dk_at dksX2_tellEntry_4 1 rfl rfl)
theorem dX2_tellEntry_98 : decode cX2_tellEntry 98 = .ok (.iload_n 1, 1) := dk_27 (dk_at dksX2_tellEntry_4 2 rfl rfl)
theorem dX2_tellEntry_99 : decode cX2_tellEntry 99 = .ok (.invokevirtual 242, 3) := dk_182 0 242 (dk_at dksX2_tellEntry_4 3 rfl rfl)
theorem dX2_tellEntry_102 : decode cX2_tellEntry 102 = .ok (.ireturn, 1) := dk_172 (dk_at dksX2_tellEntry_4 6 rfl rfl)
theorem dX2_tellEntry_103 : decode cX2_tellEntry 103 = .ok (.bipush (-102), 2) := dk_16 154 (dk_at dksX2_tellEntry_4 7 rfl rfl)
theorem dX2_tellEntry_105 : decode cX2_tellEntry 105 = .ok (.ireturn, 1) := dk_172 (dk_at dksX2_tellEntry_4 9 rfl rfl)
abbrev cX2_lessMany : ByteArray := prog_11_method_40_code
def yX2_lessMany : MethodName := ⟨RX2, "lessMany", "(I)I"⟩
def dkwX2_lessMany_1 : List UInt8 := [28, 172]
abbrev dktX2_lessMany_1 : List UInt8 := dkwX2_lessMany_1 ++ []
def dkwX2_lessMany_0 : List UInt8 := [3, 61, 3, 62, 29, 27, 162, 0, 18, 28, 42, 180, 0, 22, 29, 46, 96, 61, 132, 3, 1, 167, 255, 239]
abbrev dktX2_lessMany_0 : List UInt8 := dkwX2_lessMany_0 ++ dktX2_lessMany_1
theorem dksX2_lessMany_0 : cX2_lessMany.data.toList.drop 0 = dktX2_lessMany_0 := by decide +kernel
theorem dksX2_lessMany_1 : cX2_lessMany.data.toList.drop 24 = dktX2_lessMany_1 := dk_seg dksX2_lessMany_0 24 rfl rfl
theorem dX2_lessMany_0 : decode cX2_lessMany 0 = .ok (.iconst 0, 1) := dk_3 (dk_at dksX2_lessMany_0 0 rfl rfl)
theorem dX2_lessMany_1 : decode cX2_lessMany 1 = .ok (.istore_n 2, 1) := dk_61 (dk_at dksX2_lessMany_0 1 rfl rfl)
theorem dX2_lessMany_2 : decode cX2_lessMany 2 = .ok (.iconst 0, 1) := dk_3 (dk_at dksX2_lessMany_0 2 rfl rfl)
theorem dX2_lessMany_3 : decode cX2_lessMany 3 = .ok (.istore_n 3, 1) := dk_62 (dk_at dksX2_lessMany_0 3 rfl rfl)
theorem dX2_lessMany_4 : decode cX2_lessMany 4 = .ok (.iload_n 3, 1) := dk_29 (dk_at dksX2_lessMany_0 4 rfl rfl)
theorem dX2_lessMany_5 : decode cX2_lessMany 5 = .ok (.iload_n 1, 1) := dk_27 (dk_at dksX2_lessMany_0 5 rfl rfl)
theorem dX2_lessMany_6 : decode cX2_lessMany 6 = .ok (.if_icmp .ge 18, 3) := dk_162 0 18 (dk_at dksX2_lessMany_0 6 rfl rfl)
theorem dX2_lessMany_9 : decode cX2_lessMany 9 = .ok (.iload_n 2, 1) := dk_28 (dk_at dksX2_lessMany_0 9 rfl rfl)
theorem dX2_lessMany_10 : decode cX2_lessMany 10 = .ok (.aload_n 0, 1) := dk_42 (dk_at dksX2_lessMany_0 10 rfl rfl)
theorem dX2_lessMany_11 : decode cX2_lessMany 11 = .ok (.getfield 22, 3) := dk_180 0 22 (dk_at dksX2_lessMany_0 11 rfl rfl)
theorem dX2_lessMany_14 : decode cX2_lessMany 14 = .ok (.iload_n 3, 1) := dk_29 (dk_at dksX2_lessMany_0 14 rfl rfl)
theorem dX2_lessMany_15 : decode cX2_lessMany 15 = .ok (.iaload, 1) := dk_46 (dk_at dksX2_lessMany_0 15 rfl rfl)
theorem dX2_lessMany_16 : decode cX2_lessMany 16 = .ok (.iadd, 1) := dk_96 (dk_at dksX2_lessMany_0 16 rfl rfl)
theorem dX2_lessMany_17 : decode cX2_lessMany 17 = .ok (.istore_n 2, 1) := dk_61 (dk_at dksX2_lessMany_0 17 rfl rfl)
theorem dX2_lessMany_18 : decode cX2_lessMany 18 = .ok (.iinc 3 1, 3) := dk_132 3 1 (dk_at dksX2_lessMany_0 18 rfl rfl)
theorem dX2_lessMany_21 : decode cX2_lessMany 21 = .ok (.goto (-17), 3) := dk_167 255 239 (dk_at dksX2_lessMany_0 21 rfl rfl)
theorem dX2_lessMany_24 : decode cX2_lessMany 24 = .ok (.iload_n 2, 1) := dk_28 (dk_at dksX2_lessMany_1 0 rfl rfl)
theorem dX2_lessMany_25 : decode cX2_lessMany 25 = .ok (.ireturn, 1) := dk_172 (dk_at dksX2_lessMany_1 1 rfl rfl)
abbrev cX2_as : ByteArray := prog_11_method_43_code
def yX2_as : MethodName := ⟨RX2, "as", "(II)I"⟩
def dkwX2_as_3 : List UInt8 := [172]
abbrev dktX2_as_3 : List UInt8 := dkwX2_as_3 ++ []
def dkwX2_as_2 : List UInt8 := [180, 0, 40, 27, 46, 7, 160, 0, 7, 4, 167, 0, 4, 3, 62, 29, 153, 0, 7, 27, 167, 0, 4, 2]
abbrev dktX2_as_2 : List UInt8 := dkwX2_as_2 ++ dktX2_as_3
def dkwX2_as_1 : List UInt8 := [16, 154, 172, 28, 153, 0, 28, 28, 42, 180, 0, 40, 27, 46, 159, 0, 18, 28, 4, 160, 0, 17, 42]
abbrev dktX2_as_1 : List UInt8 := dkwX2_as_1 ++ dktX2_as_2
def dkwX2_as_0 : List UInt8 := [42, 27, 182, 0, 245, 154, 0, 6, 16, 155, 172, 28, 133, 9, 20, 0, 251, 184, 0, 94, 154, 0, 6]
abbrev dktX2_as_0 : List UInt8 := dkwX2_as_0 ++ dktX2_as_1
theorem dksX2_as_0 : cX2_as.data.toList.drop 0 = dktX2_as_0 := by decide +kernel
theorem dksX2_as_1 : cX2_as.data.toList.drop 23 = dktX2_as_1 := dk_seg dksX2_as_0 23 rfl rfl
theorem dksX2_as_2 : cX2_as.data.toList.drop 46 = dktX2_as_2 := dk_seg dksX2_as_1 23 rfl rfl
theorem dksX2_as_3 : cX2_as.data.toList.drop 70 = dktX2_as_3 := dk_seg dksX2_as_2 24 rfl rfl
theorem dX2_as_0 : decode cX2_as 0 = .ok (.aload_n 0, 1) := dk_42 (dk_at dksX2_as_0 0 rfl rfl)
theorem dX2_as_1 : decode cX2_as 1 = .ok (.iload_n 1, 1) := dk_27 (dk_at dksX2_as_0 1 rfl rfl)
theorem dX2_as_2 : decode cX2_as 2 = .ok (.invokevirtual 245, 3) := dk_182 0 245 (dk_at dksX2_as_0 2 rfl rfl)
theorem dX2_as_5 : decode cX2_as 5 = .ok (.ifCond .ne 6, 3) := dk_154 0 6 (dk_at dksX2_as_0 5 rfl rfl)
theorem dX2_as_8 : decode cX2_as 8 = .ok (.bipush (-101), 2) := dk_16 155 (dk_at dksX2_as_0 8 rfl rfl)
theorem dX2_as_10 : decode cX2_as 10 = .ok (.ireturn, 1) := dk_172 (dk_at dksX2_as_0 10 rfl rfl)
theorem dX2_as_11 : decode cX2_as 11 = .ok (.iload_n 2, 1) := dk_28 (dk_at dksX2_as_0 11 rfl rfl)
theorem dX2_as_12 : decode cX2_as 12 = .ok (.i2l, 1) := dk_133 (dk_at dksX2_as_0 12 rfl rfl)
theorem dX2_as_13 : decode cX2_as 13 = .ok (.lconst 0, 1) := dk_9 (dk_at dksX2_as_0 13 rfl rfl)
theorem dX2_as_14 : decode cX2_as 14 = .ok (.ldc2_w 251, 3) := dk_20 0 251 (dk_at dksX2_as_0 14 rfl rfl)
theorem dX2_as_17 : decode cX2_as 17 = .ok (.invokestatic 94, 3) := dk_184 0 94 (dk_at dksX2_as_0 17 rfl rfl)
theorem dX2_as_20 : decode cX2_as 20 = .ok (.ifCond .ne 6, 3) := dk_154 0 6 (dk_at dksX2_as_0 20 rfl rfl)
theorem dX2_as_23 : decode cX2_as 23 = .ok (.bipush (-102), 2) := dk_16 154 (dk_at dksX2_as_1 0 rfl rfl)
theorem dX2_as_25 : decode cX2_as 25 = .ok (.ireturn, 1) := dk_172 (dk_at dksX2_as_1 2 rfl rfl)
theorem dX2_as_26 : decode cX2_as 26 = .ok (.iload_n 2, 1) := dk_28 (dk_at dksX2_as_1 3 rfl rfl)
theorem dX2_as_27 : decode cX2_as 27 = .ok (.ifCond .eq 28, 3) := dk_153 0 28 (dk_at dksX2_as_1 4 rfl rfl)
theorem dX2_as_30 : decode cX2_as 30 = .ok (.iload_n 2, 1) := dk_28 (dk_at dksX2_as_1 7 rfl rfl)
theorem dX2_as_31 : decode cX2_as 31 = .ok (.aload_n 0, 1) := dk_42 (dk_at dksX2_as_1 8 rfl rfl)
theorem dX2_as_32 : decode cX2_as 32 = .ok (.getfield 40, 3) := dk_180 0 40 (dk_at dksX2_as_1 9 rfl rfl)
theorem dX2_as_35 : decode cX2_as 35 = .ok (.iload_n 1, 1) := dk_27 (dk_at dksX2_as_1 12 rfl rfl)
theorem dX2_as_36 : decode cX2_as 36 = .ok (.iaload, 1) := dk_46 (dk_at dksX2_as_1 13 rfl rfl)
theorem dX2_as_37 : decode cX2_as 37 = .ok (.if_icmp .eq 18, 3) := dk_159 0 18 (dk_at dksX2_as_1 14 rfl rfl)
theorem dX2_as_40 : decode cX2_as 40 = .ok (.iload_n 2, 1) := dk_28 (dk_at dksX2_as_1 17 rfl rfl)
theorem dX2_as_41 : decode cX2_as 41 = .ok (.iconst 1, 1) := dk_4 (dk_at dksX2_as_1 18 rfl rfl)
theorem dX2_as_42 : decode cX2_as 42 = .ok (.if_icmp .ne 17, 3) := dk_160 0 17 (dk_at dksX2_as_1 19 rfl rfl)
theorem dX2_as_45 : decode cX2_as 45 = .ok (.aload_n 0, 1) := dk_42 (dk_at dksX2_as_1 22 rfl rfl)
theorem dX2_as_46 : decode cX2_as 46 = .ok (.getfield 40, 3) := dk_180 0 40 (dk_at dksX2_as_2 0 rfl rfl)
theorem dX2_as_49 : decode cX2_as 49 = .ok (.iload_n 1, 1) := dk_27 (dk_at dksX2_as_2 3 rfl rfl)
theorem dX2_as_50 : decode cX2_as 50 = .ok (.iaload, 1) := dk_46 (dk_at dksX2_as_2 4 rfl rfl)
theorem dX2_as_51 : decode cX2_as 51 = .ok (.iconst 4, 1) := dk_7 (dk_at dksX2_as_2 5 rfl rfl)
theorem dX2_as_52 : decode cX2_as 52 = .ok (.if_icmp .ne 7, 3) := dk_160 0 7 (dk_at dksX2_as_2 6 rfl rfl)
theorem dX2_as_55 : decode cX2_as 55 = .ok (.iconst 1, 1) := dk_4 (dk_at dksX2_as_2 9 rfl rfl)
theorem dX2_as_56 : decode cX2_as 56 = .ok (.goto 4, 3) := dk_167 0 4 (dk_at dksX2_as_2 10 rfl rfl)
theorem dX2_as_59 : decode cX2_as 59 = .ok (.iconst 0, 1) := dk_3 (dk_at dksX2_as_2 13 rfl rfl)
theorem dX2_as_60 : decode cX2_as 60 = .ok (.istore_n 3, 1) := dk_62 (dk_at dksX2_as_2 14 rfl rfl)
theorem dX2_as_61 : decode cX2_as 61 = .ok (.iload_n 3, 1) := dk_29 (dk_at dksX2_as_2 15 rfl rfl)
theorem dX2_as_62 : decode cX2_as 62 = .ok (.ifCond .eq 7, 3) := dk_153 0 7 (dk_at dksX2_as_2 16 rfl rfl)
theorem dX2_as_65 : decode cX2_as 65 = .ok (.iload_n 1, 1) := dk_27 (dk_at dksX2_as_2 19 rfl rfl)
theorem dX2_as_66 : decode cX2_as 66 = .ok (.goto 4, 3) := dk_167 0 4 (dk_at dksX2_as_2 20 rfl rfl)
theorem dX2_as_69 : decode cX2_as 69 = .ok (.iconst (-1), 1) := dk_2 (dk_at dksX2_as_2 23 rfl rfl)
theorem dX2_as_70 : decode cX2_as 70 = .ok (.ireturn, 1) := dk_172 (dk_at dksX2_as_3 0 rfl rfl)
abbrev cX2_at : ByteArray := prog_11_method_44_code
def yX2_at : MethodName := ⟨RX2, "at", "(I)I"⟩
def dkwX2_at_2 : List UInt8 := [162, 0, 9, 132, 2, 1, 167, 255, 235, 28, 172]
abbrev dktX2_at_2 : List UInt8 := dkwX2_at_2 ++ []
def dkwX2_at_1 : List UInt8 := [154, 0, 6, 16, 155, 172, 3, 61, 42, 180, 0, 22, 28, 46, 153, 0, 12, 42, 28, 182, 0, 242, 27]
abbrev dktX2_at_1 : List UInt8 := dkwX2_at_1 ++ dktX2_at_2
def dkwX2_at_0 : List UInt8 := [42, 182, 0, 236, 154, 0, 21, 27, 133, 9, 42, 180, 0, 28, 3, 46, 4, 100, 133, 184, 0, 94]
abbrev dktX2_at_0 : List UInt8 := dkwX2_at_0 ++ dktX2_at_1
theorem dksX2_at_0 : cX2_at.data.toList.drop 0 = dktX2_at_0 := by decide +kernel
theorem dksX2_at_1 : cX2_at.data.toList.drop 22 = dktX2_at_1 := dk_seg dksX2_at_0 22 rfl rfl
theorem dksX2_at_2 : cX2_at.data.toList.drop 45 = dktX2_at_2 := dk_seg dksX2_at_1 23 rfl rfl
theorem dX2_at_0 : decode cX2_at 0 = .ok (.aload_n 0, 1) := dk_42 (dk_at dksX2_at_0 0 rfl rfl)
theorem dX2_at_1 : decode cX2_at 1 = .ok (.invokevirtual 236, 3) := dk_182 0 236 (dk_at dksX2_at_0 1 rfl rfl)
theorem dX2_at_4 : decode cX2_at 4 = .ok (.ifCond .ne 21, 3) := dk_154 0 21 (dk_at dksX2_at_0 4 rfl rfl)
theorem dX2_at_7 : decode cX2_at 7 = .ok (.iload_n 1, 1) := dk_27 (dk_at dksX2_at_0 7 rfl rfl)
theorem dX2_at_8 : decode cX2_at 8 = .ok (.i2l, 1) := dk_133 (dk_at dksX2_at_0 8 rfl rfl)
theorem dX2_at_9 : decode cX2_at 9 = .ok (.lconst 0, 1) := dk_9 (dk_at dksX2_at_0 9 rfl rfl)
theorem dX2_at_10 : decode cX2_at 10 = .ok (.aload_n 0, 1) := dk_42 (dk_at dksX2_at_0 10 rfl rfl)
theorem dX2_at_11 : decode cX2_at 11 = .ok (.getfield 28, 3) := dk_180 0 28 (dk_at dksX2_at_0 11 rfl rfl)
theorem dX2_at_14 : decode cX2_at 14 = .ok (.iconst 0, 1) := dk_3 (dk_at dksX2_at_0 14 rfl rfl)
theorem dX2_at_15 : decode cX2_at 15 = .ok (.iaload, 1) := dk_46 (dk_at dksX2_at_0 15 rfl rfl)
theorem dX2_at_16 : decode cX2_at 16 = .ok (.iconst 1, 1) := dk_4 (dk_at dksX2_at_0 16 rfl rfl)
theorem dX2_at_17 : decode cX2_at 17 = .ok (.isub, 1) := dk_100 (dk_at dksX2_at_0 17 rfl rfl)
theorem dX2_at_18 : decode cX2_at 18 = .ok (.i2l, 1) := dk_133 (dk_at dksX2_at_0 18 rfl rfl)
theorem dX2_at_19 : decode cX2_at 19 = .ok (.invokestatic 94, 3) := dk_184 0 94 (dk_at dksX2_at_0 19 rfl rfl)
theorem dX2_at_22 : decode cX2_at 22 = .ok (.ifCond .ne 6, 3) := dk_154 0 6 (dk_at dksX2_at_1 0 rfl rfl)
theorem dX2_at_25 : decode cX2_at 25 = .ok (.bipush (-101), 2) := dk_16 155 (dk_at dksX2_at_1 3 rfl rfl)
theorem dX2_at_27 : decode cX2_at 27 = .ok (.ireturn, 1) := dk_172 (dk_at dksX2_at_1 5 rfl rfl)
theorem dX2_at_28 : decode cX2_at 28 = .ok (.iconst 0, 1) := dk_3 (dk_at dksX2_at_1 6 rfl rfl)
theorem dX2_at_29 : decode cX2_at 29 = .ok (.istore_n 2, 1) := dk_61 (dk_at dksX2_at_1 7 rfl rfl)
theorem dX2_at_30 : decode cX2_at 30 = .ok (.aload_n 0, 1) := dk_42 (dk_at dksX2_at_1 8 rfl rfl)
theorem dX2_at_31 : decode cX2_at 31 = .ok (.getfield 22, 3) := dk_180 0 22 (dk_at dksX2_at_1 9 rfl rfl)
theorem dX2_at_34 : decode cX2_at 34 = .ok (.iload_n 2, 1) := dk_28 (dk_at dksX2_at_1 12 rfl rfl)
theorem dX2_at_35 : decode cX2_at 35 = .ok (.iaload, 1) := dk_46 (dk_at dksX2_at_1 13 rfl rfl)
theorem dX2_at_36 : decode cX2_at 36 = .ok (.ifCond .eq 12, 3) := dk_153 0 12 (dk_at dksX2_at_1 14 rfl rfl)
theorem dX2_at_39 : decode cX2_at 39 = .ok (.aload_n 0, 1) := dk_42 (dk_at dksX2_at_1 17 rfl rfl)
theorem dX2_at_40 : decode cX2_at 40 = .ok (.iload_n 2, 1) := dk_28 (dk_at dksX2_at_1 18 rfl rfl)
theorem dX2_at_41 : decode cX2_at 41 = .ok (.invokevirtual 242, 3) := dk_182 0 242 (dk_at dksX2_at_1 19 rfl rfl)
theorem dX2_at_44 : decode cX2_at 44 = .ok (.iload_n 1, 1) := dk_27 (dk_at dksX2_at_1 22 rfl rfl)
theorem dX2_at_45 : decode cX2_at 45 = .ok (.if_icmp .ge 9, 3) := dk_162 0 9 (dk_at dksX2_at_2 0 rfl rfl)
theorem dX2_at_48 : decode cX2_at 48 = .ok (.iinc 2 1, 3) := dk_132 2 1 (dk_at dksX2_at_2 3 rfl rfl)
theorem dX2_at_51 : decode cX2_at 51 = .ok (.goto (-21), 3) := dk_167 255 235 (dk_at dksX2_at_2 6 rfl rfl)
theorem dX2_at_54 : decode cX2_at 54 = .ok (.iload_n 2, 1) := dk_28 (dk_at dksX2_at_2 9 rfl rfl)
theorem dX2_at_55 : decode cX2_at 55 = .ok (.ireturn, 1) := dk_172 (dk_at dksX2_at_2 10 rfl rfl)
abbrev cX2_next : ByteArray := prog_11_method_45_code
def yX2_next : MethodName := ⟨RX2, "next", "(I)I"⟩
def dkwX2_next_1 : List UInt8 := [4, 160, 0, 10, 28, 27, 164, 0, 5, 28, 172, 132, 2, 1, 167, 255, 230, 2, 172]
abbrev dktX2_next_1 : List UInt8 := dkwX2_next_1 ++ []
def dkwX2_next_0 : List UInt8 := [42, 182, 0, 236, 153, 0, 6, 16, 153, 172, 3, 61, 28, 16, 100, 162, 0, 26, 42, 180, 0, 22, 28, 46]
abbrev dktX2_next_0 : List UInt8 := dkwX2_next_0 ++ dktX2_next_1
theorem dksX2_next_0 : cX2_next.data.toList.drop 0 = dktX2_next_0 := by decide +kernel
theorem dksX2_next_1 : cX2_next.data.toList.drop 24 = dktX2_next_1 := dk_seg dksX2_next_0 24 rfl rfl
theorem dX2_next_0 : decode cX2_next 0 = .ok (.aload_n 0, 1) := dk_42 (dk_at dksX2_next_0 0 rfl rfl)
theorem dX2_next_1 : decode cX2_next 1 = .ok (.invokevirtual 236, 3) := dk_182 0 236 (dk_at dksX2_next_0 1 rfl rfl)
theorem dX2_next_4 : decode cX2_next 4 = .ok (.ifCond .eq 6, 3) := dk_153 0 6 (dk_at dksX2_next_0 4 rfl rfl)
theorem dX2_next_7 : decode cX2_next 7 = .ok (.bipush (-103), 2) := dk_16 153 (dk_at dksX2_next_0 7 rfl rfl)
theorem dX2_next_9 : decode cX2_next 9 = .ok (.ireturn, 1) := dk_172 (dk_at dksX2_next_0 9 rfl rfl)
theorem dX2_next_10 : decode cX2_next 10 = .ok (.iconst 0, 1) := dk_3 (dk_at dksX2_next_0 10 rfl rfl)
theorem dX2_next_11 : decode cX2_next 11 = .ok (.istore_n 2, 1) := dk_61 (dk_at dksX2_next_0 11 rfl rfl)
theorem dX2_next_12 : decode cX2_next 12 = .ok (.iload_n 2, 1) := dk_28 (dk_at dksX2_next_0 12 rfl rfl)
theorem dX2_next_13 : decode cX2_next 13 = .ok (.bipush 100, 2) := dk_16 100 (dk_at dksX2_next_0 13 rfl rfl)
theorem dX2_next_15 : decode cX2_next 15 = .ok (.if_icmp .ge 26, 3) := dk_162 0 26 (dk_at dksX2_next_0 15 rfl rfl)
theorem dX2_next_18 : decode cX2_next 18 = .ok (.aload_n 0, 1) := dk_42 (dk_at dksX2_next_0 18 rfl rfl)
theorem dX2_next_19 : decode cX2_next 19 = .ok (.getfield 22, 3) := dk_180 0 22 (dk_at dksX2_next_0 19 rfl rfl)
theorem dX2_next_22 : decode cX2_next 22 = .ok (.iload_n 2, 1) := dk_28 (dk_at dksX2_next_0 22 rfl rfl)
theorem dX2_next_23 : decode cX2_next 23 = .ok (.iaload, 1) := dk_46 (dk_at dksX2_next_0 23 rfl rfl)
theorem dX2_next_24 : decode cX2_next 24 = .ok (.iconst 1, 1) := dk_4 (dk_at dksX2_next_1 0 rfl rfl)
theorem dX2_next_25 : decode cX2_next 25 = .ok (.if_icmp .ne 10, 3) := dk_160 0 10 (dk_at dksX2_next_1 1 rfl rfl)
theorem dX2_next_28 : decode cX2_next 28 = .ok (.iload_n 2, 1) := dk_28 (dk_at dksX2_next_1 4 rfl rfl)
theorem dX2_next_29 : decode cX2_next 29 = .ok (.iload_n 1, 1) := dk_27 (dk_at dksX2_next_1 5 rfl rfl)
theorem dX2_next_30 : decode cX2_next 30 = .ok (.if_icmp .le 5, 3) := dk_164 0 5 (dk_at dksX2_next_1 6 rfl rfl)
theorem dX2_next_33 : decode cX2_next 33 = .ok (.iload_n 2, 1) := dk_28 (dk_at dksX2_next_1 9 rfl rfl)
theorem dX2_next_34 : decode cX2_next 34 = .ok (.ireturn, 1) := dk_172 (dk_at dksX2_next_1 10 rfl rfl)
theorem dX2_next_35 : decode cX2_next 35 = .ok (.iinc 2 1, 3) := dk_132 2 1 (dk_at dksX2_next_1 11 rfl rfl)
theorem dX2_next_38 : decode cX2_next 38 = .ok (.goto (-26), 3) := dk_167 255 230 (dk_at dksX2_next_1 14 rfl rfl)
theorem dX2_next_41 : decode cX2_next 41 = .ok (.iconst (-1), 1) := dk_2 (dk_at dksX2_next_1 17 rfl rfl)
theorem dX2_next_42 : decode cX2_next 42 = .ok (.ireturn, 1) := dk_172 (dk_at dksX2_next_1 18 rfl rfl)
abbrev cX2_put : ByteArray := prog_11_method_46_code
def yX2_put : MethodName := ⟨RX2, "put", "(III)I"⟩
def dkwX2_put_5 : List UInt8 := [180, 0, 171, 172]
abbrev dktX2_put_5 : List UInt8 := dkwX2_put_5 ++ []
def dkwX2_put_4 : List UInt8 := [172, 42, 180, 0, 28, 3, 46, 16, 40, 160, 0, 6, 16, 152, 172, 42, 27, 28, 29, 182, 0, 221, 42]
abbrev dktX2_put_4 : List UInt8 := dkwX2_put_4 ++ dktX2_put_5
def dkwX2_put_3 : List UInt8 := [180, 0, 22, 28, 46, 4, 160, 0, 19, 42, 180, 0, 40, 28, 27, 79, 42, 180, 0, 43, 28, 29, 79, 3]
abbrev dktX2_put_3 : List UInt8 := dkwX2_put_3 ++ dktX2_put_4
def dkwX2_put_2 : List UInt8 := [180, 0, 22, 28, 46, 4, 160, 0, 16, 42, 180, 0, 40, 28, 46, 7, 160, 0, 6, 16, 153, 172, 42]
abbrev dktX2_put_2 : List UInt8 := dkwX2_put_2 ++ dktX2_put_3
def dkwX2_put_1 : List UInt8 := [29, 133, 9, 20, 0, 253, 184, 0, 94, 154, 0, 6, 16, 154, 172, 42, 182, 0, 236, 154, 0, 23, 42]
abbrev dktX2_put_1 : List UInt8 := dkwX2_put_1 ++ dktX2_put_2
def dkwX2_put_0 : List UInt8 := [27, 133, 9, 20, 0, 251, 184, 0, 94, 153, 0, 27, 28, 133, 9, 20, 0, 240, 184, 0, 94, 153, 0, 15]
abbrev dktX2_put_0 : List UInt8 := dkwX2_put_0 ++ dktX2_put_1
theorem dksX2_put_0 : cX2_put.data.toList.drop 0 = dktX2_put_0 := by decide +kernel
theorem dksX2_put_1 : cX2_put.data.toList.drop 24 = dktX2_put_1 := dk_seg dksX2_put_0 24 rfl rfl
theorem dksX2_put_2 : cX2_put.data.toList.drop 47 = dktX2_put_2 := dk_seg dksX2_put_1 23 rfl rfl
theorem dksX2_put_3 : cX2_put.data.toList.drop 70 = dktX2_put_3 := dk_seg dksX2_put_2 23 rfl rfl
theorem dksX2_put_4 : cX2_put.data.toList.drop 94 = dktX2_put_4 := dk_seg dksX2_put_3 24 rfl rfl
theorem dksX2_put_5 : cX2_put.data.toList.drop 117 = dktX2_put_5 := dk_seg dksX2_put_4 23 rfl rfl
theorem dX2_put_0 : decode cX2_put 0 = .ok (.iload_n 1, 1) := dk_27 (dk_at dksX2_put_0 0 rfl rfl)
theorem dX2_put_1 : decode cX2_put 1 = .ok (.i2l, 1) := dk_133 (dk_at dksX2_put_0 1 rfl rfl)
theorem dX2_put_2 : decode cX2_put 2 = .ok (.lconst 0, 1) := dk_9 (dk_at dksX2_put_0 2 rfl rfl)
theorem dX2_put_3 : decode cX2_put 3 = .ok (.ldc2_w 251, 3) := dk_20 0 251 (dk_at dksX2_put_0 3 rfl rfl)
theorem dX2_put_6 : decode cX2_put 6 = .ok (.invokestatic 94, 3) := dk_184 0 94 (dk_at dksX2_put_0 6 rfl rfl)
theorem dX2_put_9 : decode cX2_put 9 = .ok (.ifCond .eq 27, 3) := dk_153 0 27 (dk_at dksX2_put_0 9 rfl rfl)
theorem dX2_put_12 : decode cX2_put 12 = .ok (.iload_n 2, 1) := dk_28 (dk_at dksX2_put_0 12 rfl rfl)
theorem dX2_put_13 : decode cX2_put 13 = .ok (.i2l, 1) := dk_133 (dk_at dksX2_put_0 13 rfl rfl)
theorem dX2_put_14 : decode cX2_put 14 = .ok (.lconst 0, 1) := dk_9 (dk_at dksX2_put_0 14 rfl rfl)
theorem dX2_put_15 : decode cX2_put 15 = .ok (.ldc2_w 240, 3) := dk_20 0 240 (dk_at dksX2_put_0 15 rfl rfl)
theorem dX2_put_18 : decode cX2_put 18 = .ok (.invokestatic 94, 3) := dk_184 0 94 (dk_at dksX2_put_0 18 rfl rfl)
theorem dX2_put_21 : decode cX2_put 21 = .ok (.ifCond .eq 15, 3) := dk_153 0 15 (dk_at dksX2_put_0 21 rfl rfl)
theorem dX2_put_24 : decode cX2_put 24 = .ok (.iload_n 3, 1) := dk_29 (dk_at dksX2_put_1 0 rfl rfl)
theorem dX2_put_25 : decode cX2_put 25 = .ok (.i2l, 1) := dk_133 (dk_at dksX2_put_1 1 rfl rfl)
theorem dX2_put_26 : decode cX2_put 26 = .ok (.lconst 0, 1) := dk_9 (dk_at dksX2_put_1 2 rfl rfl)
theorem dX2_put_27 : decode cX2_put 27 = .ok (.ldc2_w 253, 3) := dk_20 0 253 (dk_at dksX2_put_1 3 rfl rfl)
theorem dX2_put_30 : decode cX2_put 30 = .ok (.invokestatic 94, 3) := dk_184 0 94 (dk_at dksX2_put_1 6 rfl rfl)
theorem dX2_put_33 : decode cX2_put 33 = .ok (.ifCond .ne 6, 3) := dk_154 0 6 (dk_at dksX2_put_1 9 rfl rfl)
theorem dX2_put_36 : decode cX2_put 36 = .ok (.bipush (-102), 2) := dk_16 154 (dk_at dksX2_put_1 12 rfl rfl)
theorem dX2_put_38 : decode cX2_put 38 = .ok (.ireturn, 1) := dk_172 (dk_at dksX2_put_1 14 rfl rfl)
theorem dX2_put_39 : decode cX2_put 39 = .ok (.aload_n 0, 1) := dk_42 (dk_at dksX2_put_1 15 rfl rfl)
theorem dX2_put_40 : decode cX2_put 40 = .ok (.invokevirtual 236, 3) := dk_182 0 236 (dk_at dksX2_put_1 16 rfl rfl)
theorem dX2_put_43 : decode cX2_put 43 = .ok (.ifCond .ne 23, 3) := dk_154 0 23 (dk_at dksX2_put_1 19 rfl rfl)
theorem dX2_put_46 : decode cX2_put 46 = .ok (.aload_n 0, 1) := dk_42 (dk_at dksX2_put_1 22 rfl rfl)
theorem dX2_put_47 : decode cX2_put 47 = .ok (.getfield 22, 3) := dk_180 0 22 (dk_at dksX2_put_2 0 rfl rfl)
theorem dX2_put_50 : decode cX2_put 50 = .ok (.iload_n 2, 1) := dk_28 (dk_at dksX2_put_2 3 rfl rfl)
theorem dX2_put_51 : decode cX2_put 51 = .ok (.iaload, 1) := dk_46 (dk_at dksX2_put_2 4 rfl rfl)
theorem dX2_put_52 : decode cX2_put 52 = .ok (.iconst 1, 1) := dk_4 (dk_at dksX2_put_2 5 rfl rfl)
theorem dX2_put_53 : decode cX2_put 53 = .ok (.if_icmp .ne 16, 3) := dk_160 0 16 (dk_at dksX2_put_2 6 rfl rfl)
theorem dX2_put_56 : decode cX2_put 56 = .ok (.aload_n 0, 1) := dk_42 (dk_at dksX2_put_2 9 rfl rfl)
theorem dX2_put_57 : decode cX2_put 57 = .ok (.getfield 40, 3) := dk_180 0 40 (dk_at dksX2_put_2 10 rfl rfl)
theorem dX2_put_60 : decode cX2_put 60 = .ok (.iload_n 2, 1) := dk_28 (dk_at dksX2_put_2 13 rfl rfl)
theorem dX2_put_61 : decode cX2_put 61 = .ok (.iaload, 1) := dk_46 (dk_at dksX2_put_2 14 rfl rfl)
theorem dX2_put_62 : decode cX2_put 62 = .ok (.iconst 4, 1) := dk_7 (dk_at dksX2_put_2 15 rfl rfl)
theorem dX2_put_63 : decode cX2_put 63 = .ok (.if_icmp .ne 6, 3) := dk_160 0 6 (dk_at dksX2_put_2 16 rfl rfl)
theorem dX2_put_66 : decode cX2_put 66 = .ok (.bipush (-103), 2) := dk_16 153 (dk_at dksX2_put_2 19 rfl rfl)
theorem dX2_put_68 : decode cX2_put 68 = .ok (.ireturn, 1) := dk_172 (dk_at dksX2_put_2 21 rfl rfl)
theorem dX2_put_69 : decode cX2_put 69 = .ok (.aload_n 0, 1) := dk_42 (dk_at dksX2_put_2 22 rfl rfl)
theorem dX2_put_70 : decode cX2_put 70 = .ok (.getfield 22, 3) := dk_180 0 22 (dk_at dksX2_put_3 0 rfl rfl)
theorem dX2_put_73 : decode cX2_put 73 = .ok (.iload_n 2, 1) := dk_28 (dk_at dksX2_put_3 3 rfl rfl)
theorem dX2_put_74 : decode cX2_put 74 = .ok (.iaload, 1) := dk_46 (dk_at dksX2_put_3 4 rfl rfl)
theorem dX2_put_75 : decode cX2_put 75 = .ok (.iconst 1, 1) := dk_4 (dk_at dksX2_put_3 5 rfl rfl)
theorem dX2_put_76 : decode cX2_put 76 = .ok (.if_icmp .ne 19, 3) := dk_160 0 19 (dk_at dksX2_put_3 6 rfl rfl)
theorem dX2_put_79 : decode cX2_put 79 = .ok (.aload_n 0, 1) := dk_42 (dk_at dksX2_put_3 9 rfl rfl)
theorem dX2_put_80 : decode cX2_put 80 = .ok (.getfield 40, 3) := dk_180 0 40 (dk_at dksX2_put_3 10 rfl rfl)
theorem dX2_put_83 : decode cX2_put 83 = .ok (.iload_n 2, 1) := dk_28 (dk_at dksX2_put_3 13 rfl rfl)
theorem dX2_put_84 : decode cX2_put 84 = .ok (.iload_n 1, 1) := dk_27 (dk_at dksX2_put_3 14 rfl rfl)
theorem dX2_put_85 : decode cX2_put 85 = .ok (.iastore, 1) := dk_79 (dk_at dksX2_put_3 15 rfl rfl)
theorem dX2_put_86 : decode cX2_put 86 = .ok (.aload_n 0, 1) := dk_42 (dk_at dksX2_put_3 16 rfl rfl)
theorem dX2_put_87 : decode cX2_put 87 = .ok (.getfield 43, 3) := dk_180 0 43 (dk_at dksX2_put_3 17 rfl rfl)
theorem dX2_put_90 : decode cX2_put 90 = .ok (.iload_n 2, 1) := dk_28 (dk_at dksX2_put_3 20 rfl rfl)
theorem dX2_put_91 : decode cX2_put 91 = .ok (.iload_n 3, 1) := dk_29 (dk_at dksX2_put_3 21 rfl rfl)
theorem dX2_put_92 : decode cX2_put 92 = .ok (.iastore, 1) := dk_79 (dk_at dksX2_put_3 22 rfl rfl)
theorem dX2_put_93 : decode cX2_put 93 = .ok (.iconst 0, 1) := dk_3 (dk_at dksX2_put_3 23 rfl rfl)
theorem dX2_put_94 : decode cX2_put 94 = .ok (.ireturn, 1) := dk_172 (dk_at dksX2_put_4 0 rfl rfl)
theorem dX2_put_95 : decode cX2_put 95 = .ok (.aload_n 0, 1) := dk_42 (dk_at dksX2_put_4 1 rfl rfl)
theorem dX2_put_96 : decode cX2_put 96 = .ok (.getfield 28, 3) := dk_180 0 28 (dk_at dksX2_put_4 2 rfl rfl)
theorem dX2_put_99 : decode cX2_put 99 = .ok (.iconst 0, 1) := dk_3 (dk_at dksX2_put_4 5 rfl rfl)
theorem dX2_put_100 : decode cX2_put 100 = .ok (.iaload, 1) := dk_46 (dk_at dksX2_put_4 6 rfl rfl)
theorem dX2_put_101 : decode cX2_put 101 = .ok (.bipush 40, 2) := dk_16 40 (dk_at dksX2_put_4 7 rfl rfl)
theorem dX2_put_103 : decode cX2_put 103 = .ok (.if_icmp .ne 6, 3) := dk_160 0 6 (dk_at dksX2_put_4 9 rfl rfl)
theorem dX2_put_106 : decode cX2_put 106 = .ok (.bipush (-104), 2) := dk_16 152 (dk_at dksX2_put_4 12 rfl rfl)
theorem dX2_put_108 : decode cX2_put 108 = .ok (.ireturn, 1) := dk_172 (dk_at dksX2_put_4 14 rfl rfl)
theorem dX2_put_109 : decode cX2_put 109 = .ok (.aload_n 0, 1) := dk_42 (dk_at dksX2_put_4 15 rfl rfl)
theorem dX2_put_110 : decode cX2_put 110 = .ok (.iload_n 1, 1) := dk_27 (dk_at dksX2_put_4 16 rfl rfl)
theorem dX2_put_111 : decode cX2_put 111 = .ok (.iload_n 2, 1) := dk_28 (dk_at dksX2_put_4 17 rfl rfl)
theorem dX2_put_112 : decode cX2_put 112 = .ok (.iload_n 3, 1) := dk_29 (dk_at dksX2_put_4 18 rfl rfl)
theorem dX2_put_113 : decode cX2_put 113 = .ok (.invokevirtual 221, 3) := dk_182 0 221 (dk_at dksX2_put_4 19 rfl rfl)
theorem dX2_put_116 : decode cX2_put 116 = .ok (.aload_n 0, 1) := dk_42 (dk_at dksX2_put_4 22 rfl rfl)
theorem dX2_put_117 : decode cX2_put 117 = .ok (.getfield 171, 3) := dk_180 0 171 (dk_at dksX2_put_5 0 rfl rfl)
theorem dX2_put_120 : decode cX2_put 120 = .ok (.ireturn, 1) := dk_172 (dk_at dksX2_put_5 3 rfl rfl)
abbrev cX2_take : ByteArray := prog_11_method_47_code
def yX2_take : MethodName := ⟨RX2, "take", "(I)I"⟩
def dkwX2_take_1 : List UInt8 := [180, 0, 40, 27, 46, 7, 160, 0, 6, 16, 153, 172, 42, 27, 182, 0, 255, 42, 180, 0, 43, 27, 46, 172]
abbrev dktX2_take_1 : List UInt8 := dkwX2_take_1 ++ []
def dkwX2_take_0 : List UInt8 := [42, 27, 182, 0, 245, 154, 0, 6, 16, 155, 172, 42, 180, 0, 40, 27, 46, 4, 159, 0, 13, 42]
abbrev dktX2_take_0 : List UInt8 := dkwX2_take_0 ++ dktX2_take_1
theorem dksX2_take_0 : cX2_take.data.toList.drop 0 = dktX2_take_0 := by decide +kernel
theorem dksX2_take_1 : cX2_take.data.toList.drop 22 = dktX2_take_1 := dk_seg dksX2_take_0 22 rfl rfl
theorem dX2_take_0 : decode cX2_take 0 = .ok (.aload_n 0, 1) := dk_42 (dk_at dksX2_take_0 0 rfl rfl)
theorem dX2_take_1 : decode cX2_take 1 = .ok (.iload_n 1, 1) := dk_27 (dk_at dksX2_take_0 1 rfl rfl)
theorem dX2_take_2 : decode cX2_take 2 = .ok (.invokevirtual 245, 3) := dk_182 0 245 (dk_at dksX2_take_0 2 rfl rfl)
theorem dX2_take_5 : decode cX2_take 5 = .ok (.ifCond .ne 6, 3) := dk_154 0 6 (dk_at dksX2_take_0 5 rfl rfl)
theorem dX2_take_8 : decode cX2_take 8 = .ok (.bipush (-101), 2) := dk_16 155 (dk_at dksX2_take_0 8 rfl rfl)
theorem dX2_take_10 : decode cX2_take 10 = .ok (.ireturn, 1) := dk_172 (dk_at dksX2_take_0 10 rfl rfl)
theorem dX2_take_11 : decode cX2_take 11 = .ok (.aload_n 0, 1) := dk_42 (dk_at dksX2_take_0 11 rfl rfl)
theorem dX2_take_12 : decode cX2_take 12 = .ok (.getfield 40, 3) := dk_180 0 40 (dk_at dksX2_take_0 12 rfl rfl)
theorem dX2_take_15 : decode cX2_take 15 = .ok (.iload_n 1, 1) := dk_27 (dk_at dksX2_take_0 15 rfl rfl)
theorem dX2_take_16 : decode cX2_take 16 = .ok (.iaload, 1) := dk_46 (dk_at dksX2_take_0 16 rfl rfl)
theorem dX2_take_17 : decode cX2_take 17 = .ok (.iconst 1, 1) := dk_4 (dk_at dksX2_take_0 17 rfl rfl)
theorem dX2_take_18 : decode cX2_take 18 = .ok (.if_icmp .eq 13, 3) := dk_159 0 13 (dk_at dksX2_take_0 18 rfl rfl)
theorem dX2_take_21 : decode cX2_take 21 = .ok (.aload_n 0, 1) := dk_42 (dk_at dksX2_take_0 21 rfl rfl)
theorem dX2_take_22 : decode cX2_take 22 = .ok (.getfield 40, 3) := dk_180 0 40 (dk_at dksX2_take_1 0 rfl rfl)
theorem dX2_take_25 : decode cX2_take 25 = .ok (.iload_n 1, 1) := dk_27 (dk_at dksX2_take_1 3 rfl rfl)
theorem dX2_take_26 : decode cX2_take 26 = .ok (.iaload, 1) := dk_46 (dk_at dksX2_take_1 4 rfl rfl)
theorem dX2_take_27 : decode cX2_take 27 = .ok (.iconst 4, 1) := dk_7 (dk_at dksX2_take_1 5 rfl rfl)
theorem dX2_take_28 : decode cX2_take 28 = .ok (.if_icmp .ne 6, 3) := dk_160 0 6 (dk_at dksX2_take_1 6 rfl rfl)
theorem dX2_take_31 : decode cX2_take 31 = .ok (.bipush (-103), 2) := dk_16 153 (dk_at dksX2_take_1 9 rfl rfl)
theorem dX2_take_33 : decode cX2_take 33 = .ok (.ireturn, 1) := dk_172 (dk_at dksX2_take_1 11 rfl rfl)
theorem dX2_take_34 : decode cX2_take 34 = .ok (.aload_n 0, 1) := dk_42 (dk_at dksX2_take_1 12 rfl rfl)
theorem dX2_take_35 : decode cX2_take 35 = .ok (.iload_n 1, 1) := dk_27 (dk_at dksX2_take_1 13 rfl rfl)
theorem dX2_take_36 : decode cX2_take 36 = .ok (.invokevirtual 255, 3) := dk_182 0 255 (dk_at dksX2_take_1 14 rfl rfl)
theorem dX2_take_39 : decode cX2_take 39 = .ok (.aload_n 0, 1) := dk_42 (dk_at dksX2_take_1 17 rfl rfl)
theorem dX2_take_40 : decode cX2_take 40 = .ok (.getfield 43, 3) := dk_180 0 43 (dk_at dksX2_take_1 18 rfl rfl)
theorem dX2_take_43 : decode cX2_take 43 = .ok (.iload_n 1, 1) := dk_27 (dk_at dksX2_take_1 21 rfl rfl)
theorem dX2_take_44 : decode cX2_take 44 = .ok (.iaload, 1) := dk_46 (dk_at dksX2_take_1 22 rfl rfl)
theorem dX2_take_45 : decode cX2_take 45 = .ok (.ireturn, 1) := dk_172 (dk_at dksX2_take_1 23 rfl rfl)
abbrev cX2_takeOut : ByteArray := prog_11_method_38_code
def yX2_takeOut : MethodName := ⟨RX2, "takeOut", "(I)V"⟩
def dkwX2_takeOut_0 : List UInt8 := [42, 3, 27, 182, 0, 233, 42, 2, 27, 100, 182, 0, 230, 177]
abbrev dktX2_takeOut_0 : List UInt8 := dkwX2_takeOut_0 ++ []
theorem dksX2_takeOut_0 : cX2_takeOut.data.toList.drop 0 = dktX2_takeOut_0 := by decide +kernel
theorem dX2_takeOut_0 : decode cX2_takeOut 0 = .ok (.aload_n 0, 1) := dk_42 (dk_at dksX2_takeOut_0 0 rfl rfl)
theorem dX2_takeOut_1 : decode cX2_takeOut 1 = .ok (.iconst 0, 1) := dk_3 (dk_at dksX2_takeOut_0 1 rfl rfl)
theorem dX2_takeOut_2 : decode cX2_takeOut 2 = .ok (.iload_n 1, 1) := dk_27 (dk_at dksX2_takeOut_0 2 rfl rfl)
theorem dX2_takeOut_3 : decode cX2_takeOut 3 = .ok (.invokevirtual 233, 3) := dk_182 0 233 (dk_at dksX2_takeOut_0 3 rfl rfl)
theorem dX2_takeOut_6 : decode cX2_takeOut 6 = .ok (.aload_n 0, 1) := dk_42 (dk_at dksX2_takeOut_0 6 rfl rfl)
theorem dX2_takeOut_7 : decode cX2_takeOut 7 = .ok (.iconst (-1), 1) := dk_2 (dk_at dksX2_takeOut_0 7 rfl rfl)
theorem dX2_takeOut_8 : decode cX2_takeOut 8 = .ok (.iload_n 1, 1) := dk_27 (dk_at dksX2_takeOut_0 8 rfl rfl)
theorem dX2_takeOut_9 : decode cX2_takeOut 9 = .ok (.isub, 1) := dk_100 (dk_at dksX2_takeOut_0 9 rfl rfl)
theorem dX2_takeOut_10 : decode cX2_takeOut 10 = .ok (.invokevirtual 230, 3) := dk_182 0 230 (dk_at dksX2_takeOut_0 10 rfl rfl)
theorem dX2_takeOut_13 : decode cX2_takeOut 13 = .ok (.return_, 1) := dk_177 (dk_at dksX2_takeOut_0 13 rfl rfl)
abbrev cX2_leave : ByteArray := prog_11_method_33_code
def yX2_leave : MethodName := ⟨RX2, "leave", "(II)V"⟩
def dkwX2_leave_4 : List UInt8 := [180, 0, 28, 27, 46, 154, 0, 7, 3, 167, 0, 9, 42, 180, 0, 31, 27, 46, 79, 177]
abbrev dktX2_leave_4 : List UInt8 := dkwX2_leave_4 ++ []
def dkwX2_leave_3 : List UInt8 := [46, 182, 0, 202, 42, 180, 0, 31, 27, 42, 180, 0, 28, 27, 46, 79, 42, 180, 0, 31, 27, 42]
abbrev dktX2_leave_3 : List UInt8 := dkwX2_leave_3 ++ dktX2_leave_4
def dkwX2_leave_2 : List UInt8 := [46, 104, 42, 27, 182, 0, 161, 42, 180, 0, 31, 27, 46, 104, 162, 0, 26, 42, 27, 42, 180, 0, 25, 27]
abbrev dktX2_leave_2 : List UInt8 := dkwX2_leave_2 ++ dktX2_leave_3
def dkwX2_leave_1 : List UInt8 := [42, 3, 181, 0, 171, 42, 180, 0, 28, 27, 46, 158, 0, 53, 42, 27, 182, 0, 158, 42, 180, 0, 28, 27]
abbrev dktX2_leave_1 : List UInt8 := dkwX2_leave_1 ++ dktX2_leave_2
def dkwX2_leave_0 : List UInt8 := [42, 27, 42, 180, 0, 193, 42, 27, 28, 182, 0, 154, 4, 96, 104, 182, 0, 181, 42, 27, 28, 182, 0, 208]
abbrev dktX2_leave_0 : List UInt8 := dkwX2_leave_0 ++ dktX2_leave_1
theorem dksX2_leave_0 : cX2_leave.data.toList.drop 0 = dktX2_leave_0 := by decide +kernel
theorem dksX2_leave_1 : cX2_leave.data.toList.drop 24 = dktX2_leave_1 := dk_seg dksX2_leave_0 24 rfl rfl
theorem dksX2_leave_2 : cX2_leave.data.toList.drop 48 = dktX2_leave_2 := dk_seg dksX2_leave_1 24 rfl rfl
theorem dksX2_leave_3 : cX2_leave.data.toList.drop 72 = dktX2_leave_3 := dk_seg dksX2_leave_2 24 rfl rfl
theorem dksX2_leave_4 : cX2_leave.data.toList.drop 94 = dktX2_leave_4 := dk_seg dksX2_leave_3 22 rfl rfl
theorem dX2_leave_0 : decode cX2_leave 0 = .ok (.aload_n 0, 1) := dk_42 (dk_at dksX2_leave_0 0 rfl rfl)
theorem dX2_leave_1 : decode cX2_leave 1 = .ok (.iload_n 1, 1) := dk_27 (dk_at dksX2_leave_0 1 rfl rfl)
theorem dX2_leave_2 : decode cX2_leave 2 = .ok (.aload_n 0, 1) := dk_42 (dk_at dksX2_leave_0 2 rfl rfl)
theorem dX2_leave_3 : decode cX2_leave 3 = .ok (.getfield 193, 3) := dk_180 0 193 (dk_at dksX2_leave_0 3 rfl rfl)
theorem dX2_leave_6 : decode cX2_leave 6 = .ok (.aload_n 0, 1) := dk_42 (dk_at dksX2_leave_0 6 rfl rfl)
theorem dX2_leave_7 : decode cX2_leave 7 = .ok (.iload_n 1, 1) := dk_27 (dk_at dksX2_leave_0 7 rfl rfl)
theorem dX2_leave_8 : decode cX2_leave 8 = .ok (.iload_n 2, 1) := dk_28 (dk_at dksX2_leave_0 8 rfl rfl)
theorem dX2_leave_9 : decode cX2_leave 9 = .ok (.invokevirtual 154, 3) := dk_182 0 154 (dk_at dksX2_leave_0 9 rfl rfl)
theorem dX2_leave_12 : decode cX2_leave 12 = .ok (.iconst 1, 1) := dk_4 (dk_at dksX2_leave_0 12 rfl rfl)
theorem dX2_leave_13 : decode cX2_leave 13 = .ok (.iadd, 1) := dk_96 (dk_at dksX2_leave_0 13 rfl rfl)
theorem dX2_leave_14 : decode cX2_leave 14 = .ok (.imul, 1) := dk_104 (dk_at dksX2_leave_0 14 rfl rfl)
theorem dX2_leave_15 : decode cX2_leave 15 = .ok (.invokevirtual 181, 3) := dk_182 0 181 (dk_at dksX2_leave_0 15 rfl rfl)
theorem dX2_leave_18 : decode cX2_leave 18 = .ok (.aload_n 0, 1) := dk_42 (dk_at dksX2_leave_0 18 rfl rfl)
theorem dX2_leave_19 : decode cX2_leave 19 = .ok (.iload_n 1, 1) := dk_27 (dk_at dksX2_leave_0 19 rfl rfl)
theorem dX2_leave_20 : decode cX2_leave 20 = .ok (.iload_n 2, 1) := dk_28 (dk_at dksX2_leave_0 20 rfl rfl)
theorem dX2_leave_21 : decode cX2_leave 21 = .ok (.invokevirtual 208, 3) := dk_182 0 208 (dk_at dksX2_leave_0 21 rfl rfl)
theorem dX2_leave_24 : decode cX2_leave 24 = .ok (.aload_n 0, 1) := dk_42 (dk_at dksX2_leave_1 0 rfl rfl)
theorem dX2_leave_25 : decode cX2_leave 25 = .ok (.iconst 0, 1) := dk_3 (dk_at dksX2_leave_1 1 rfl rfl)
theorem dX2_leave_26 : decode cX2_leave 26 = .ok (.putfield 171, 3) := dk_181 0 171 (dk_at dksX2_leave_1 2 rfl rfl)
theorem dX2_leave_29 : decode cX2_leave 29 = .ok (.aload_n 0, 1) := dk_42 (dk_at dksX2_leave_1 5 rfl rfl)
theorem dX2_leave_30 : decode cX2_leave 30 = .ok (.getfield 28, 3) := dk_180 0 28 (dk_at dksX2_leave_1 6 rfl rfl)
theorem dX2_leave_33 : decode cX2_leave 33 = .ok (.iload_n 1, 1) := dk_27 (dk_at dksX2_leave_1 9 rfl rfl)
theorem dX2_leave_34 : decode cX2_leave 34 = .ok (.iaload, 1) := dk_46 (dk_at dksX2_leave_1 10 rfl rfl)
theorem dX2_leave_35 : decode cX2_leave 35 = .ok (.ifCond .le 53, 3) := dk_158 0 53 (dk_at dksX2_leave_1 11 rfl rfl)
theorem dX2_leave_38 : decode cX2_leave 38 = .ok (.aload_n 0, 1) := dk_42 (dk_at dksX2_leave_1 14 rfl rfl)
theorem dX2_leave_39 : decode cX2_leave 39 = .ok (.iload_n 1, 1) := dk_27 (dk_at dksX2_leave_1 15 rfl rfl)
theorem dX2_leave_40 : decode cX2_leave 40 = .ok (.invokevirtual 158, 3) := dk_182 0 158 (dk_at dksX2_leave_1 16 rfl rfl)
theorem dX2_leave_43 : decode cX2_leave 43 = .ok (.aload_n 0, 1) := dk_42 (dk_at dksX2_leave_1 19 rfl rfl)
theorem dX2_leave_44 : decode cX2_leave 44 = .ok (.getfield 28, 3) := dk_180 0 28 (dk_at dksX2_leave_1 20 rfl rfl)
theorem dX2_leave_47 : decode cX2_leave 47 = .ok (.iload_n 1, 1) := dk_27 (dk_at dksX2_leave_1 23 rfl rfl)
theorem dX2_leave_48 : decode cX2_leave 48 = .ok (.iaload, 1) := dk_46 (dk_at dksX2_leave_2 0 rfl rfl)
theorem dX2_leave_49 : decode cX2_leave 49 = .ok (.imul, 1) := dk_104 (dk_at dksX2_leave_2 1 rfl rfl)
theorem dX2_leave_50 : decode cX2_leave 50 = .ok (.aload_n 0, 1) := dk_42 (dk_at dksX2_leave_2 2 rfl rfl)
theorem dX2_leave_51 : decode cX2_leave 51 = .ok (.iload_n 1, 1) := dk_27 (dk_at dksX2_leave_2 3 rfl rfl)
theorem dX2_leave_52 : decode cX2_leave 52 = .ok (.invokevirtual 161, 3) := dk_182 0 161 (dk_at dksX2_leave_2 4 rfl rfl)
theorem dX2_leave_55 : decode cX2_leave 55 = .ok (.aload_n 0, 1) := dk_42 (dk_at dksX2_leave_2 7 rfl rfl)
theorem dX2_leave_56 : decode cX2_leave 56 = .ok (.getfield 31, 3) := dk_180 0 31 (dk_at dksX2_leave_2 8 rfl rfl)
theorem dX2_leave_59 : decode cX2_leave 59 = .ok (.iload_n 1, 1) := dk_27 (dk_at dksX2_leave_2 11 rfl rfl)
theorem dX2_leave_60 : decode cX2_leave 60 = .ok (.iaload, 1) := dk_46 (dk_at dksX2_leave_2 12 rfl rfl)
theorem dX2_leave_61 : decode cX2_leave 61 = .ok (.imul, 1) := dk_104 (dk_at dksX2_leave_2 13 rfl rfl)
theorem dX2_leave_62 : decode cX2_leave 62 = .ok (.if_icmp .ge 26, 3) := dk_162 0 26 (dk_at dksX2_leave_2 14 rfl rfl)
theorem dX2_leave_65 : decode cX2_leave 65 = .ok (.aload_n 0, 1) := dk_42 (dk_at dksX2_leave_2 17 rfl rfl)
theorem dX2_leave_66 : decode cX2_leave 66 = .ok (.iload_n 1, 1) := dk_27 (dk_at dksX2_leave_2 18 rfl rfl)
theorem dX2_leave_67 : decode cX2_leave 67 = .ok (.aload_n 0, 1) := dk_42 (dk_at dksX2_leave_2 19 rfl rfl)
theorem dX2_leave_68 : decode cX2_leave 68 = .ok (.getfield 25, 3) := dk_180 0 25 (dk_at dksX2_leave_2 20 rfl rfl)
theorem dX2_leave_71 : decode cX2_leave 71 = .ok (.iload_n 1, 1) := dk_27 (dk_at dksX2_leave_2 23 rfl rfl)
theorem dX2_leave_72 : decode cX2_leave 72 = .ok (.iaload, 1) := dk_46 (dk_at dksX2_leave_3 0 rfl rfl)
theorem dX2_leave_73 : decode cX2_leave 73 = .ok (.invokevirtual 202, 3) := dk_182 0 202 (dk_at dksX2_leave_3 1 rfl rfl)
theorem dX2_leave_76 : decode cX2_leave 76 = .ok (.aload_n 0, 1) := dk_42 (dk_at dksX2_leave_3 4 rfl rfl)
theorem dX2_leave_77 : decode cX2_leave 77 = .ok (.getfield 31, 3) := dk_180 0 31 (dk_at dksX2_leave_3 5 rfl rfl)
theorem dX2_leave_80 : decode cX2_leave 80 = .ok (.iload_n 1, 1) := dk_27 (dk_at dksX2_leave_3 8 rfl rfl)
theorem dX2_leave_81 : decode cX2_leave 81 = .ok (.aload_n 0, 1) := dk_42 (dk_at dksX2_leave_3 9 rfl rfl)
theorem dX2_leave_82 : decode cX2_leave 82 = .ok (.getfield 28, 3) := dk_180 0 28 (dk_at dksX2_leave_3 10 rfl rfl)
theorem dX2_leave_85 : decode cX2_leave 85 = .ok (.iload_n 1, 1) := dk_27 (dk_at dksX2_leave_3 13 rfl rfl)
theorem dX2_leave_86 : decode cX2_leave 86 = .ok (.iaload, 1) := dk_46 (dk_at dksX2_leave_3 14 rfl rfl)
theorem dX2_leave_87 : decode cX2_leave 87 = .ok (.iastore, 1) := dk_79 (dk_at dksX2_leave_3 15 rfl rfl)
theorem dX2_leave_88 : decode cX2_leave 88 = .ok (.aload_n 0, 1) := dk_42 (dk_at dksX2_leave_3 16 rfl rfl)
theorem dX2_leave_89 : decode cX2_leave 89 = .ok (.getfield 31, 3) := dk_180 0 31 (dk_at dksX2_leave_3 17 rfl rfl)
theorem dX2_leave_92 : decode cX2_leave 92 = .ok (.iload_n 1, 1) := dk_27 (dk_at dksX2_leave_3 20 rfl rfl)
theorem dX2_leave_93 : decode cX2_leave 93 = .ok (.aload_n 0, 1) := dk_42 (dk_at dksX2_leave_3 21 rfl rfl)
theorem dX2_leave_94 : decode cX2_leave 94 = .ok (.getfield 28, 3) := dk_180 0 28 (dk_at dksX2_leave_4 0 rfl rfl)
theorem dX2_leave_97 : decode cX2_leave 97 = .ok (.iload_n 1, 1) := dk_27 (dk_at dksX2_leave_4 3 rfl rfl)
theorem dX2_leave_98 : decode cX2_leave 98 = .ok (.iaload, 1) := dk_46 (dk_at dksX2_leave_4 4 rfl rfl)
theorem dX2_leave_99 : decode cX2_leave 99 = .ok (.ifCond .ne 7, 3) := dk_154 0 7 (dk_at dksX2_leave_4 5 rfl rfl)
theorem dX2_leave_102 : decode cX2_leave 102 = .ok (.iconst 0, 1) := dk_3 (dk_at dksX2_leave_4 8 rfl rfl)
theorem dX2_leave_103 : decode cX2_leave 103 = .ok (.goto 9, 3) := dk_167 0 9 (dk_at dksX2_leave_4 9 rfl rfl)
theorem dX2_leave_106 : decode cX2_leave 106 = .ok (.aload_n 0, 1) := dk_42 (dk_at dksX2_leave_4 12 rfl rfl)
theorem dX2_leave_107 : decode cX2_leave 107 = .ok (.getfield 31, 3) := dk_180 0 31 (dk_at dksX2_leave_4 13 rfl rfl)
theorem dX2_leave_110 : decode cX2_leave 110 = .ok (.iload_n 1, 1) := dk_27 (dk_at dksX2_leave_4 16 rfl rfl)
theorem dX2_leave_111 : decode cX2_leave 111 = .ok (.iaload, 1) := dk_46 (dk_at dksX2_leave_4 17 rfl rfl)
theorem dX2_leave_112 : decode cX2_leave 112 = .ok (.iastore, 1) := dk_79 (dk_at dksX2_leave_4 18 rfl rfl)
theorem dX2_leave_113 : decode cX2_leave 113 = .ok (.return_, 1) := dk_177 (dk_at dksX2_leave_4 19 rfl rfl)
abbrev cX2_remove : ByteArray := prog_11_method_32_code
def yX2_remove : MethodName := ⟨RX2, "remove", "(II)V"⟩
def dkwX2_remove_8 : List UInt8 := [180, 0, 22, 16, 100, 27, 104, 28, 96, 3, 79, 42, 180, 0, 28, 27, 92, 46, 4, 100, 79, 177]
abbrev dktX2_remove_8 : List UInt8 := dkwX2_remove_8 ++ []
def dkwX2_remove_7 : List UInt8 := [180, 0, 16, 16, 100, 27, 104, 29, 96, 46, 29, 182, 0, 164, 42, 27, 28, 29, 182, 0, 178, 42]
abbrev dktX2_remove_7 : List UInt8 := dkwX2_remove_7 ++ dktX2_remove_8
def dkwX2_remove_6 : List UInt8 := [29, 182, 0, 164, 42, 180, 0, 16, 16, 100, 27, 104, 29, 96, 46, 2, 159, 0, 20, 42, 27, 42]
abbrev dktX2_remove_6 : List UInt8 := dkwX2_remove_6 ++ dktX2_remove_7
def dkwX2_remove_5 : List UInt8 := [180, 0, 16, 16, 100, 27, 104, 28, 96, 46, 79, 42, 27, 42, 180, 0, 13, 16, 100, 27, 104, 29, 96, 46]
abbrev dktX2_remove_5 : List UInt8 := dkwX2_remove_5 ++ dktX2_remove_6
def dkwX2_remove_4 : List UInt8 := [96, 42, 180, 0, 13, 16, 100, 27, 104, 28, 96, 46, 79, 42, 180, 0, 16, 16, 100, 27, 104, 29, 96, 42]
abbrev dktX2_remove_4 : List UInt8 := dkwX2_remove_4 ++ dktX2_remove_5
def dkwX2_remove_3 : List UInt8 := [27, 104, 29, 96, 46, 62, 167, 255, 229, 42, 27, 29, 182, 0, 205, 42, 180, 0, 13, 16, 100, 27, 104, 29]
abbrev dktX2_remove_3 : List UInt8 := dkwX2_remove_3 ++ dktX2_remove_4
def dkwX2_remove_2 : List UInt8 := [96, 46, 62, 42, 180, 0, 13, 16, 100, 27, 104, 29, 96, 46, 2, 159, 0, 18, 42, 180, 0, 13, 16, 100]
abbrev dktX2_remove_2 : List UInt8 := dkwX2_remove_2 ++ dktX2_remove_3
def dkwX2_remove_1 : List UInt8 := [96, 46, 2, 160, 0, 12, 42, 27, 28, 182, 0, 205, 167, 0, 151, 42, 180, 0, 16, 16, 100, 27, 104, 28]
abbrev dktX2_remove_1 : List UInt8 := dkwX2_remove_1 ++ dktX2_remove_2
def dkwX2_remove_0 : List UInt8 := [42, 180, 0, 13, 16, 100, 27, 104, 28, 96, 46, 2, 159, 0, 18, 42, 180, 0, 16, 16, 100, 27, 104, 28]
abbrev dktX2_remove_0 : List UInt8 := dkwX2_remove_0 ++ dktX2_remove_1
theorem dksX2_remove_0 : cX2_remove.data.toList.drop 0 = dktX2_remove_0 := by decide +kernel
theorem dksX2_remove_1 : cX2_remove.data.toList.drop 24 = dktX2_remove_1 := dk_seg dksX2_remove_0 24 rfl rfl
theorem dksX2_remove_2 : cX2_remove.data.toList.drop 48 = dktX2_remove_2 := dk_seg dksX2_remove_1 24 rfl rfl
theorem dksX2_remove_3 : cX2_remove.data.toList.drop 72 = dktX2_remove_3 := dk_seg dksX2_remove_2 24 rfl rfl
theorem dksX2_remove_4 : cX2_remove.data.toList.drop 96 = dktX2_remove_4 := dk_seg dksX2_remove_3 24 rfl rfl
theorem dksX2_remove_5 : cX2_remove.data.toList.drop 120 = dktX2_remove_5 := dk_seg dksX2_remove_4 24 rfl rfl
theorem dksX2_remove_6 : cX2_remove.data.toList.drop 144 = dktX2_remove_6 := dk_seg dksX2_remove_5 24 rfl rfl
theorem dksX2_remove_7 : cX2_remove.data.toList.drop 166 = dktX2_remove_7 := dk_seg dksX2_remove_6 22 rfl rfl
theorem dksX2_remove_8 : cX2_remove.data.toList.drop 188 = dktX2_remove_8 := dk_seg dksX2_remove_7 22 rfl rfl
theorem dX2_remove_0 : decode cX2_remove 0 = .ok (.aload_n 0, 1) := dk_42 (dk_at dksX2_remove_0 0 rfl rfl)
theorem dX2_remove_1 : decode cX2_remove 1 = .ok (.getfield 13, 3) := dk_180 0 13 (dk_at dksX2_remove_0 1 rfl rfl)
theorem dX2_remove_4 : decode cX2_remove 4 = .ok (.bipush 100, 2) := dk_16 100 (dk_at dksX2_remove_0 4 rfl rfl)
theorem dX2_remove_6 : decode cX2_remove 6 = .ok (.iload_n 1, 1) := dk_27 (dk_at dksX2_remove_0 6 rfl rfl)
theorem dX2_remove_7 : decode cX2_remove 7 = .ok (.imul, 1) := dk_104 (dk_at dksX2_remove_0 7 rfl rfl)
theorem dX2_remove_8 : decode cX2_remove 8 = .ok (.iload_n 2, 1) := dk_28 (dk_at dksX2_remove_0 8 rfl rfl)
theorem dX2_remove_9 : decode cX2_remove 9 = .ok (.iadd, 1) := dk_96 (dk_at dksX2_remove_0 9 rfl rfl)
theorem dX2_remove_10 : decode cX2_remove 10 = .ok (.iaload, 1) := dk_46 (dk_at dksX2_remove_0 10 rfl rfl)
theorem dX2_remove_11 : decode cX2_remove 11 = .ok (.iconst (-1), 1) := dk_2 (dk_at dksX2_remove_0 11 rfl rfl)
theorem dX2_remove_12 : decode cX2_remove 12 = .ok (.if_icmp .eq 18, 3) := dk_159 0 18 (dk_at dksX2_remove_0 12 rfl rfl)
theorem dX2_remove_15 : decode cX2_remove 15 = .ok (.aload_n 0, 1) := dk_42 (dk_at dksX2_remove_0 15 rfl rfl)
theorem dX2_remove_16 : decode cX2_remove 16 = .ok (.getfield 16, 3) := dk_180 0 16 (dk_at dksX2_remove_0 16 rfl rfl)
theorem dX2_remove_19 : decode cX2_remove 19 = .ok (.bipush 100, 2) := dk_16 100 (dk_at dksX2_remove_0 19 rfl rfl)
theorem dX2_remove_21 : decode cX2_remove 21 = .ok (.iload_n 1, 1) := dk_27 (dk_at dksX2_remove_0 21 rfl rfl)
theorem dX2_remove_22 : decode cX2_remove 22 = .ok (.imul, 1) := dk_104 (dk_at dksX2_remove_0 22 rfl rfl)
theorem dX2_remove_23 : decode cX2_remove 23 = .ok (.iload_n 2, 1) := dk_28 (dk_at dksX2_remove_0 23 rfl rfl)
theorem dX2_remove_24 : decode cX2_remove 24 = .ok (.iadd, 1) := dk_96 (dk_at dksX2_remove_1 0 rfl rfl)
theorem dX2_remove_25 : decode cX2_remove 25 = .ok (.iaload, 1) := dk_46 (dk_at dksX2_remove_1 1 rfl rfl)
theorem dX2_remove_26 : decode cX2_remove 26 = .ok (.iconst (-1), 1) := dk_2 (dk_at dksX2_remove_1 2 rfl rfl)
theorem dX2_remove_27 : decode cX2_remove 27 = .ok (.if_icmp .ne 12, 3) := dk_160 0 12 (dk_at dksX2_remove_1 3 rfl rfl)
theorem dX2_remove_30 : decode cX2_remove 30 = .ok (.aload_n 0, 1) := dk_42 (dk_at dksX2_remove_1 6 rfl rfl)
theorem dX2_remove_31 : decode cX2_remove 31 = .ok (.iload_n 1, 1) := dk_27 (dk_at dksX2_remove_1 7 rfl rfl)
theorem dX2_remove_32 : decode cX2_remove 32 = .ok (.iload_n 2, 1) := dk_28 (dk_at dksX2_remove_1 8 rfl rfl)
theorem dX2_remove_33 : decode cX2_remove 33 = .ok (.invokevirtual 205, 3) := dk_182 0 205 (dk_at dksX2_remove_1 9 rfl rfl)
theorem dX2_remove_36 : decode cX2_remove 36 = .ok (.goto 151, 3) := dk_167 0 151 (dk_at dksX2_remove_1 12 rfl rfl)
theorem dX2_remove_39 : decode cX2_remove 39 = .ok (.aload_n 0, 1) := dk_42 (dk_at dksX2_remove_1 15 rfl rfl)
theorem dX2_remove_40 : decode cX2_remove 40 = .ok (.getfield 16, 3) := dk_180 0 16 (dk_at dksX2_remove_1 16 rfl rfl)
theorem dX2_remove_43 : decode cX2_remove 43 = .ok (.bipush 100, 2) := dk_16 100 (dk_at dksX2_remove_1 19 rfl rfl)
theorem dX2_remove_45 : decode cX2_remove 45 = .ok (.iload_n 1, 1) := dk_27 (dk_at dksX2_remove_1 21 rfl rfl)
theorem dX2_remove_46 : decode cX2_remove 46 = .ok (.imul, 1) := dk_104 (dk_at dksX2_remove_1 22 rfl rfl)
theorem dX2_remove_47 : decode cX2_remove 47 = .ok (.iload_n 2, 1) := dk_28 (dk_at dksX2_remove_1 23 rfl rfl)
theorem dX2_remove_48 : decode cX2_remove 48 = .ok (.iadd, 1) := dk_96 (dk_at dksX2_remove_2 0 rfl rfl)
theorem dX2_remove_49 : decode cX2_remove 49 = .ok (.iaload, 1) := dk_46 (dk_at dksX2_remove_2 1 rfl rfl)
theorem dX2_remove_50 : decode cX2_remove 50 = .ok (.istore_n 3, 1) := dk_62 (dk_at dksX2_remove_2 2 rfl rfl)
theorem dX2_remove_51 : decode cX2_remove 51 = .ok (.aload_n 0, 1) := dk_42 (dk_at dksX2_remove_2 3 rfl rfl)
theorem dX2_remove_52 : decode cX2_remove 52 = .ok (.getfield 13, 3) := dk_180 0 13 (dk_at dksX2_remove_2 4 rfl rfl)
theorem dX2_remove_55 : decode cX2_remove 55 = .ok (.bipush 100, 2) := dk_16 100 (dk_at dksX2_remove_2 7 rfl rfl)
theorem dX2_remove_57 : decode cX2_remove 57 = .ok (.iload_n 1, 1) := dk_27 (dk_at dksX2_remove_2 9 rfl rfl)
theorem dX2_remove_58 : decode cX2_remove 58 = .ok (.imul, 1) := dk_104 (dk_at dksX2_remove_2 10 rfl rfl)
theorem dX2_remove_59 : decode cX2_remove 59 = .ok (.iload_n 3, 1) := dk_29 (dk_at dksX2_remove_2 11 rfl rfl)
theorem dX2_remove_60 : decode cX2_remove 60 = .ok (.iadd, 1) := dk_96 (dk_at dksX2_remove_2 12 rfl rfl)
theorem dX2_remove_61 : decode cX2_remove 61 = .ok (.iaload, 1) := dk_46 (dk_at dksX2_remove_2 13 rfl rfl)
theorem dX2_remove_62 : decode cX2_remove 62 = .ok (.iconst (-1), 1) := dk_2 (dk_at dksX2_remove_2 14 rfl rfl)
theorem dX2_remove_63 : decode cX2_remove 63 = .ok (.if_icmp .eq 18, 3) := dk_159 0 18 (dk_at dksX2_remove_2 15 rfl rfl)
theorem dX2_remove_66 : decode cX2_remove 66 = .ok (.aload_n 0, 1) := dk_42 (dk_at dksX2_remove_2 18 rfl rfl)
theorem dX2_remove_67 : decode cX2_remove 67 = .ok (.getfield 13, 3) := dk_180 0 13 (dk_at dksX2_remove_2 19 rfl rfl)
theorem dX2_remove_70 : decode cX2_remove 70 = .ok (.bipush 100, 2) := dk_16 100 (dk_at dksX2_remove_2 22 rfl rfl)
theorem dX2_remove_72 : decode cX2_remove 72 = .ok (.iload_n 1, 1) := dk_27 (dk_at dksX2_remove_3 0 rfl rfl)
theorem dX2_remove_73 : decode cX2_remove 73 = .ok (.imul, 1) := dk_104 (dk_at dksX2_remove_3 1 rfl rfl)
theorem dX2_remove_74 : decode cX2_remove 74 = .ok (.iload_n 3, 1) := dk_29 (dk_at dksX2_remove_3 2 rfl rfl)
theorem dX2_remove_75 : decode cX2_remove 75 = .ok (.iadd, 1) := dk_96 (dk_at dksX2_remove_3 3 rfl rfl)
theorem dX2_remove_76 : decode cX2_remove 76 = .ok (.iaload, 1) := dk_46 (dk_at dksX2_remove_3 4 rfl rfl)
theorem dX2_remove_77 : decode cX2_remove 77 = .ok (.istore_n 3, 1) := dk_62 (dk_at dksX2_remove_3 5 rfl rfl)
theorem dX2_remove_78 : decode cX2_remove 78 = .ok (.goto (-27), 3) := dk_167 255 229 (dk_at dksX2_remove_3 6 rfl rfl)
theorem dX2_remove_81 : decode cX2_remove 81 = .ok (.aload_n 0, 1) := dk_42 (dk_at dksX2_remove_3 9 rfl rfl)
theorem dX2_remove_82 : decode cX2_remove 82 = .ok (.iload_n 1, 1) := dk_27 (dk_at dksX2_remove_3 10 rfl rfl)
theorem dX2_remove_83 : decode cX2_remove 83 = .ok (.iload_n 3, 1) := dk_29 (dk_at dksX2_remove_3 11 rfl rfl)
theorem dX2_remove_84 : decode cX2_remove 84 = .ok (.invokevirtual 205, 3) := dk_182 0 205 (dk_at dksX2_remove_3 12 rfl rfl)
theorem dX2_remove_87 : decode cX2_remove 87 = .ok (.aload_n 0, 1) := dk_42 (dk_at dksX2_remove_3 15 rfl rfl)
theorem dX2_remove_88 : decode cX2_remove 88 = .ok (.getfield 13, 3) := dk_180 0 13 (dk_at dksX2_remove_3 16 rfl rfl)
theorem dX2_remove_91 : decode cX2_remove 91 = .ok (.bipush 100, 2) := dk_16 100 (dk_at dksX2_remove_3 19 rfl rfl)
theorem dX2_remove_93 : decode cX2_remove 93 = .ok (.iload_n 1, 1) := dk_27 (dk_at dksX2_remove_3 21 rfl rfl)
theorem dX2_remove_94 : decode cX2_remove 94 = .ok (.imul, 1) := dk_104 (dk_at dksX2_remove_3 22 rfl rfl)
theorem dX2_remove_95 : decode cX2_remove 95 = .ok (.iload_n 3, 1) := dk_29 (dk_at dksX2_remove_3 23 rfl rfl)
theorem dX2_remove_96 : decode cX2_remove 96 = .ok (.iadd, 1) := dk_96 (dk_at dksX2_remove_4 0 rfl rfl)
theorem dX2_remove_97 : decode cX2_remove 97 = .ok (.aload_n 0, 1) := dk_42 (dk_at dksX2_remove_4 1 rfl rfl)
theorem dX2_remove_98 : decode cX2_remove 98 = .ok (.getfield 13, 3) := dk_180 0 13 (dk_at dksX2_remove_4 2 rfl rfl)
theorem dX2_remove_101 : decode cX2_remove 101 = .ok (.bipush 100, 2) := dk_16 100 (dk_at dksX2_remove_4 5 rfl rfl)
theorem dX2_remove_103 : decode cX2_remove 103 = .ok (.iload_n 1, 1) := dk_27 (dk_at dksX2_remove_4 7 rfl rfl)
theorem dX2_remove_104 : decode cX2_remove 104 = .ok (.imul, 1) := dk_104 (dk_at dksX2_remove_4 8 rfl rfl)
theorem dX2_remove_105 : decode cX2_remove 105 = .ok (.iload_n 2, 1) := dk_28 (dk_at dksX2_remove_4 9 rfl rfl)
theorem dX2_remove_106 : decode cX2_remove 106 = .ok (.iadd, 1) := dk_96 (dk_at dksX2_remove_4 10 rfl rfl)
theorem dX2_remove_107 : decode cX2_remove 107 = .ok (.iaload, 1) := dk_46 (dk_at dksX2_remove_4 11 rfl rfl)
theorem dX2_remove_108 : decode cX2_remove 108 = .ok (.iastore, 1) := dk_79 (dk_at dksX2_remove_4 12 rfl rfl)
theorem dX2_remove_109 : decode cX2_remove 109 = .ok (.aload_n 0, 1) := dk_42 (dk_at dksX2_remove_4 13 rfl rfl)
theorem dX2_remove_110 : decode cX2_remove 110 = .ok (.getfield 16, 3) := dk_180 0 16 (dk_at dksX2_remove_4 14 rfl rfl)
theorem dX2_remove_113 : decode cX2_remove 113 = .ok (.bipush 100, 2) := dk_16 100 (dk_at dksX2_remove_4 17 rfl rfl)
theorem dX2_remove_115 : decode cX2_remove 115 = .ok (.iload_n 1, 1) := dk_27 (dk_at dksX2_remove_4 19 rfl rfl)
theorem dX2_remove_116 : decode cX2_remove 116 = .ok (.imul, 1) := dk_104 (dk_at dksX2_remove_4 20 rfl rfl)
theorem dX2_remove_117 : decode cX2_remove 117 = .ok (.iload_n 3, 1) := dk_29 (dk_at dksX2_remove_4 21 rfl rfl)
theorem dX2_remove_118 : decode cX2_remove 118 = .ok (.iadd, 1) := dk_96 (dk_at dksX2_remove_4 22 rfl rfl)
theorem dX2_remove_119 : decode cX2_remove 119 = .ok (.aload_n 0, 1) := dk_42 (dk_at dksX2_remove_4 23 rfl rfl)
theorem dX2_remove_120 : decode cX2_remove 120 = .ok (.getfield 16, 3) := dk_180 0 16 (dk_at dksX2_remove_5 0 rfl rfl)
theorem dX2_remove_123 : decode cX2_remove 123 = .ok (.bipush 100, 2) := dk_16 100 (dk_at dksX2_remove_5 3 rfl rfl)
theorem dX2_remove_125 : decode cX2_remove 125 = .ok (.iload_n 1, 1) := dk_27 (dk_at dksX2_remove_5 5 rfl rfl)
theorem dX2_remove_126 : decode cX2_remove 126 = .ok (.imul, 1) := dk_104 (dk_at dksX2_remove_5 6 rfl rfl)
theorem dX2_remove_127 : decode cX2_remove 127 = .ok (.iload_n 2, 1) := dk_28 (dk_at dksX2_remove_5 7 rfl rfl)
theorem dX2_remove_128 : decode cX2_remove 128 = .ok (.iadd, 1) := dk_96 (dk_at dksX2_remove_5 8 rfl rfl)
theorem dX2_remove_129 : decode cX2_remove 129 = .ok (.iaload, 1) := dk_46 (dk_at dksX2_remove_5 9 rfl rfl)
theorem dX2_remove_130 : decode cX2_remove 130 = .ok (.iastore, 1) := dk_79 (dk_at dksX2_remove_5 10 rfl rfl)
theorem dX2_remove_131 : decode cX2_remove 131 = .ok (.aload_n 0, 1) := dk_42 (dk_at dksX2_remove_5 11 rfl rfl)
theorem dX2_remove_132 : decode cX2_remove 132 = .ok (.iload_n 1, 1) := dk_27 (dk_at dksX2_remove_5 12 rfl rfl)
theorem dX2_remove_133 : decode cX2_remove 133 = .ok (.aload_n 0, 1) := dk_42 (dk_at dksX2_remove_5 13 rfl rfl)
theorem dX2_remove_134 : decode cX2_remove 134 = .ok (.getfield 13, 3) := dk_180 0 13 (dk_at dksX2_remove_5 14 rfl rfl)
theorem dX2_remove_137 : decode cX2_remove 137 = .ok (.bipush 100, 2) := dk_16 100 (dk_at dksX2_remove_5 17 rfl rfl)
theorem dX2_remove_139 : decode cX2_remove 139 = .ok (.iload_n 1, 1) := dk_27 (dk_at dksX2_remove_5 19 rfl rfl)
theorem dX2_remove_140 : decode cX2_remove 140 = .ok (.imul, 1) := dk_104 (dk_at dksX2_remove_5 20 rfl rfl)
theorem dX2_remove_141 : decode cX2_remove 141 = .ok (.iload_n 3, 1) := dk_29 (dk_at dksX2_remove_5 21 rfl rfl)
theorem dX2_remove_142 : decode cX2_remove 142 = .ok (.iadd, 1) := dk_96 (dk_at dksX2_remove_5 22 rfl rfl)
theorem dX2_remove_143 : decode cX2_remove 143 = .ok (.iaload, 1) := dk_46 (dk_at dksX2_remove_5 23 rfl rfl)
theorem dX2_remove_144 : decode cX2_remove 144 = .ok (.iload_n 3, 1) := dk_29 (dk_at dksX2_remove_6 0 rfl rfl)
theorem dX2_remove_145 : decode cX2_remove 145 = .ok (.invokevirtual 164, 3) := dk_182 0 164 (dk_at dksX2_remove_6 1 rfl rfl)
theorem dX2_remove_148 : decode cX2_remove 148 = .ok (.aload_n 0, 1) := dk_42 (dk_at dksX2_remove_6 4 rfl rfl)
theorem dX2_remove_149 : decode cX2_remove 149 = .ok (.getfield 16, 3) := dk_180 0 16 (dk_at dksX2_remove_6 5 rfl rfl)
theorem dX2_remove_152 : decode cX2_remove 152 = .ok (.bipush 100, 2) := dk_16 100 (dk_at dksX2_remove_6 8 rfl rfl)
theorem dX2_remove_154 : decode cX2_remove 154 = .ok (.iload_n 1, 1) := dk_27 (dk_at dksX2_remove_6 10 rfl rfl)
theorem dX2_remove_155 : decode cX2_remove 155 = .ok (.imul, 1) := dk_104 (dk_at dksX2_remove_6 11 rfl rfl)
theorem dX2_remove_156 : decode cX2_remove 156 = .ok (.iload_n 3, 1) := dk_29 (dk_at dksX2_remove_6 12 rfl rfl)
theorem dX2_remove_157 : decode cX2_remove 157 = .ok (.iadd, 1) := dk_96 (dk_at dksX2_remove_6 13 rfl rfl)
theorem dX2_remove_158 : decode cX2_remove 158 = .ok (.iaload, 1) := dk_46 (dk_at dksX2_remove_6 14 rfl rfl)
theorem dX2_remove_159 : decode cX2_remove 159 = .ok (.iconst (-1), 1) := dk_2 (dk_at dksX2_remove_6 15 rfl rfl)
theorem dX2_remove_160 : decode cX2_remove 160 = .ok (.if_icmp .eq 20, 3) := dk_159 0 20 (dk_at dksX2_remove_6 16 rfl rfl)
theorem dX2_remove_163 : decode cX2_remove 163 = .ok (.aload_n 0, 1) := dk_42 (dk_at dksX2_remove_6 19 rfl rfl)
theorem dX2_remove_164 : decode cX2_remove 164 = .ok (.iload_n 1, 1) := dk_27 (dk_at dksX2_remove_6 20 rfl rfl)
theorem dX2_remove_165 : decode cX2_remove 165 = .ok (.aload_n 0, 1) := dk_42 (dk_at dksX2_remove_6 21 rfl rfl)
theorem dX2_remove_166 : decode cX2_remove 166 = .ok (.getfield 16, 3) := dk_180 0 16 (dk_at dksX2_remove_7 0 rfl rfl)
theorem dX2_remove_169 : decode cX2_remove 169 = .ok (.bipush 100, 2) := dk_16 100 (dk_at dksX2_remove_7 3 rfl rfl)
theorem dX2_remove_171 : decode cX2_remove 171 = .ok (.iload_n 1, 1) := dk_27 (dk_at dksX2_remove_7 5 rfl rfl)
theorem dX2_remove_172 : decode cX2_remove 172 = .ok (.imul, 1) := dk_104 (dk_at dksX2_remove_7 6 rfl rfl)
theorem dX2_remove_173 : decode cX2_remove 173 = .ok (.iload_n 3, 1) := dk_29 (dk_at dksX2_remove_7 7 rfl rfl)
theorem dX2_remove_174 : decode cX2_remove 174 = .ok (.iadd, 1) := dk_96 (dk_at dksX2_remove_7 8 rfl rfl)
theorem dX2_remove_175 : decode cX2_remove 175 = .ok (.iaload, 1) := dk_46 (dk_at dksX2_remove_7 9 rfl rfl)
theorem dX2_remove_176 : decode cX2_remove 176 = .ok (.iload_n 3, 1) := dk_29 (dk_at dksX2_remove_7 10 rfl rfl)
theorem dX2_remove_177 : decode cX2_remove 177 = .ok (.invokevirtual 164, 3) := dk_182 0 164 (dk_at dksX2_remove_7 11 rfl rfl)
theorem dX2_remove_180 : decode cX2_remove 180 = .ok (.aload_n 0, 1) := dk_42 (dk_at dksX2_remove_7 14 rfl rfl)
theorem dX2_remove_181 : decode cX2_remove 181 = .ok (.iload_n 1, 1) := dk_27 (dk_at dksX2_remove_7 15 rfl rfl)
theorem dX2_remove_182 : decode cX2_remove 182 = .ok (.iload_n 2, 1) := dk_28 (dk_at dksX2_remove_7 16 rfl rfl)
theorem dX2_remove_183 : decode cX2_remove 183 = .ok (.iload_n 3, 1) := dk_29 (dk_at dksX2_remove_7 17 rfl rfl)
theorem dX2_remove_184 : decode cX2_remove 184 = .ok (.invokevirtual 178, 3) := dk_182 0 178 (dk_at dksX2_remove_7 18 rfl rfl)
theorem dX2_remove_187 : decode cX2_remove 187 = .ok (.aload_n 0, 1) := dk_42 (dk_at dksX2_remove_7 21 rfl rfl)
theorem dX2_remove_188 : decode cX2_remove 188 = .ok (.getfield 22, 3) := dk_180 0 22 (dk_at dksX2_remove_8 0 rfl rfl)
theorem dX2_remove_191 : decode cX2_remove 191 = .ok (.bipush 100, 2) := dk_16 100 (dk_at dksX2_remove_8 3 rfl rfl)
theorem dX2_remove_193 : decode cX2_remove 193 = .ok (.iload_n 1, 1) := dk_27 (dk_at dksX2_remove_8 5 rfl rfl)
theorem dX2_remove_194 : decode cX2_remove 194 = .ok (.imul, 1) := dk_104 (dk_at dksX2_remove_8 6 rfl rfl)
theorem dX2_remove_195 : decode cX2_remove 195 = .ok (.iload_n 2, 1) := dk_28 (dk_at dksX2_remove_8 7 rfl rfl)
theorem dX2_remove_196 : decode cX2_remove 196 = .ok (.iadd, 1) := dk_96 (dk_at dksX2_remove_8 8 rfl rfl)
theorem dX2_remove_197 : decode cX2_remove 197 = .ok (.iconst 0, 1) := dk_3 (dk_at dksX2_remove_8 9 rfl rfl)
theorem dX2_remove_198 : decode cX2_remove 198 = .ok (.iastore, 1) := dk_79 (dk_at dksX2_remove_8 10 rfl rfl)
theorem dX2_remove_199 : decode cX2_remove 199 = .ok (.aload_n 0, 1) := dk_42 (dk_at dksX2_remove_8 11 rfl rfl)
theorem dX2_remove_200 : decode cX2_remove 200 = .ok (.getfield 28, 3) := dk_180 0 28 (dk_at dksX2_remove_8 12 rfl rfl)
theorem dX2_remove_203 : decode cX2_remove 203 = .ok (.iload_n 1, 1) := dk_27 (dk_at dksX2_remove_8 15 rfl rfl)
theorem dX2_remove_204 : decode cX2_remove 204 = .ok (.dup2, 1) := dk_92 (dk_at dksX2_remove_8 16 rfl rfl)
theorem dX2_remove_205 : decode cX2_remove 205 = .ok (.iaload, 1) := dk_46 (dk_at dksX2_remove_8 17 rfl rfl)
theorem dX2_remove_206 : decode cX2_remove 206 = .ok (.iconst 1, 1) := dk_4 (dk_at dksX2_remove_8 18 rfl rfl)
theorem dX2_remove_207 : decode cX2_remove 207 = .ok (.isub, 1) := dk_100 (dk_at dksX2_remove_8 19 rfl rfl)
theorem dX2_remove_208 : decode cX2_remove 208 = .ok (.iastore, 1) := dk_79 (dk_at dksX2_remove_8 20 rfl rfl)
theorem dX2_remove_209 : decode cX2_remove 209 = .ok (.return_, 1) := dk_177 (dk_at dksX2_remove_8 21 rfl rfl)
abbrev cX2_unhang : ByteArray := prog_11_method_31_code
def yX2_unhang : MethodName := ⟨RX2, "unhang", "(II)V"⟩
def dkwX2_unhang_2 : List UInt8 := [177]
abbrev dktX2_unhang_2 : List UInt8 := dkwX2_unhang_2 ++ []
def dkwX2_unhang_1 : List UInt8 := [96, 46, 167, 0, 14, 42, 180, 0, 13, 16, 100, 27, 104, 28, 96, 46, 62, 42, 27, 28, 29, 182, 0, 178]
abbrev dktX2_unhang_1 : List UInt8 := dkwX2_unhang_1 ++ dktX2_unhang_2
def dkwX2_unhang_0 : List UInt8 := [42, 180, 0, 13, 16, 100, 27, 104, 28, 96, 46, 2, 160, 0, 17, 42, 180, 0, 16, 16, 100, 27, 104, 28]
abbrev dktX2_unhang_0 : List UInt8 := dkwX2_unhang_0 ++ dktX2_unhang_1
theorem dksX2_unhang_0 : cX2_unhang.data.toList.drop 0 = dktX2_unhang_0 := by decide +kernel
theorem dksX2_unhang_1 : cX2_unhang.data.toList.drop 24 = dktX2_unhang_1 := dk_seg dksX2_unhang_0 24 rfl rfl
theorem dksX2_unhang_2 : cX2_unhang.data.toList.drop 48 = dktX2_unhang_2 := dk_seg dksX2_unhang_1 24 rfl rfl
theorem dX2_unhang_0 : decode cX2_unhang 0 = .ok (.aload_n 0, 1) := dk_42 (dk_at dksX2_unhang_0 0 rfl rfl)
theorem dX2_unhang_1 : decode cX2_unhang 1 = .ok (.getfield 13, 3) := dk_180 0 13 (dk_at dksX2_unhang_0 1 rfl rfl)
theorem dX2_unhang_4 : decode cX2_unhang 4 = .ok (.bipush 100, 2) := dk_16 100 (dk_at dksX2_unhang_0 4 rfl rfl)
theorem dX2_unhang_6 : decode cX2_unhang 6 = .ok (.iload_n 1, 1) := dk_27 (dk_at dksX2_unhang_0 6 rfl rfl)
theorem dX2_unhang_7 : decode cX2_unhang 7 = .ok (.imul, 1) := dk_104 (dk_at dksX2_unhang_0 7 rfl rfl)
theorem dX2_unhang_8 : decode cX2_unhang 8 = .ok (.iload_n 2, 1) := dk_28 (dk_at dksX2_unhang_0 8 rfl rfl)
theorem dX2_unhang_9 : decode cX2_unhang 9 = .ok (.iadd, 1) := dk_96 (dk_at dksX2_unhang_0 9 rfl rfl)
theorem dX2_unhang_10 : decode cX2_unhang 10 = .ok (.iaload, 1) := dk_46 (dk_at dksX2_unhang_0 10 rfl rfl)
theorem dX2_unhang_11 : decode cX2_unhang 11 = .ok (.iconst (-1), 1) := dk_2 (dk_at dksX2_unhang_0 11 rfl rfl)
theorem dX2_unhang_12 : decode cX2_unhang 12 = .ok (.if_icmp .ne 17, 3) := dk_160 0 17 (dk_at dksX2_unhang_0 12 rfl rfl)
theorem dX2_unhang_15 : decode cX2_unhang 15 = .ok (.aload_n 0, 1) := dk_42 (dk_at dksX2_unhang_0 15 rfl rfl)
theorem dX2_unhang_16 : decode cX2_unhang 16 = .ok (.getfield 16, 3) := dk_180 0 16 (dk_at dksX2_unhang_0 16 rfl rfl)
theorem dX2_unhang_19 : decode cX2_unhang 19 = .ok (.bipush 100, 2) := dk_16 100 (dk_at dksX2_unhang_0 19 rfl rfl)
theorem dX2_unhang_21 : decode cX2_unhang 21 = .ok (.iload_n 1, 1) := dk_27 (dk_at dksX2_unhang_0 21 rfl rfl)
theorem dX2_unhang_22 : decode cX2_unhang 22 = .ok (.imul, 1) := dk_104 (dk_at dksX2_unhang_0 22 rfl rfl)
theorem dX2_unhang_23 : decode cX2_unhang 23 = .ok (.iload_n 2, 1) := dk_28 (dk_at dksX2_unhang_0 23 rfl rfl)
theorem dX2_unhang_24 : decode cX2_unhang 24 = .ok (.iadd, 1) := dk_96 (dk_at dksX2_unhang_1 0 rfl rfl)
theorem dX2_unhang_25 : decode cX2_unhang 25 = .ok (.iaload, 1) := dk_46 (dk_at dksX2_unhang_1 1 rfl rfl)
theorem dX2_unhang_26 : decode cX2_unhang 26 = .ok (.goto 14, 3) := dk_167 0 14 (dk_at dksX2_unhang_1 2 rfl rfl)
theorem dX2_unhang_29 : decode cX2_unhang 29 = .ok (.aload_n 0, 1) := dk_42 (dk_at dksX2_unhang_1 5 rfl rfl)
theorem dX2_unhang_30 : decode cX2_unhang 30 = .ok (.getfield 13, 3) := dk_180 0 13 (dk_at dksX2_unhang_1 6 rfl rfl)
theorem dX2_unhang_33 : decode cX2_unhang 33 = .ok (.bipush 100, 2) := dk_16 100 (dk_at dksX2_unhang_1 9 rfl rfl)
theorem dX2_unhang_35 : decode cX2_unhang 35 = .ok (.iload_n 1, 1) := dk_27 (dk_at dksX2_unhang_1 11 rfl rfl)
theorem dX2_unhang_36 : decode cX2_unhang 36 = .ok (.imul, 1) := dk_104 (dk_at dksX2_unhang_1 12 rfl rfl)
theorem dX2_unhang_37 : decode cX2_unhang 37 = .ok (.iload_n 2, 1) := dk_28 (dk_at dksX2_unhang_1 13 rfl rfl)
theorem dX2_unhang_38 : decode cX2_unhang 38 = .ok (.iadd, 1) := dk_96 (dk_at dksX2_unhang_1 14 rfl rfl)
theorem dX2_unhang_39 : decode cX2_unhang 39 = .ok (.iaload, 1) := dk_46 (dk_at dksX2_unhang_1 15 rfl rfl)
theorem dX2_unhang_40 : decode cX2_unhang 40 = .ok (.istore_n 3, 1) := dk_62 (dk_at dksX2_unhang_1 16 rfl rfl)
theorem dX2_unhang_41 : decode cX2_unhang 41 = .ok (.aload_n 0, 1) := dk_42 (dk_at dksX2_unhang_1 17 rfl rfl)
theorem dX2_unhang_42 : decode cX2_unhang 42 = .ok (.iload_n 1, 1) := dk_27 (dk_at dksX2_unhang_1 18 rfl rfl)
theorem dX2_unhang_43 : decode cX2_unhang 43 = .ok (.iload_n 2, 1) := dk_28 (dk_at dksX2_unhang_1 19 rfl rfl)
theorem dX2_unhang_44 : decode cX2_unhang 44 = .ok (.iload_n 3, 1) := dk_29 (dk_at dksX2_unhang_1 20 rfl rfl)
theorem dX2_unhang_45 : decode cX2_unhang 45 = .ok (.invokevirtual 178, 3) := dk_182 0 178 (dk_at dksX2_unhang_1 21 rfl rfl)
theorem dX2_unhang_48 : decode cX2_unhang 48 = .ok (.return_, 1) := dk_177 (dk_at dksX2_unhang_2 0 rfl rfl)
abbrev cX2_tell : ByteArray := prog_11_method_48_code
def yX2_tell : MethodName := ⟨RX2, "tell", "(I)I"⟩
def dkwX2_tell_2 : List UInt8 := [180, 0, 40, 27, 46, 6, 160, 0, 8, 42, 27, 182, 0, 255, 28, 172]
abbrev dktX2_tell_2 : List UInt8 := dkwX2_tell_2 ++ []
def dkwX2_tell_1 : List UInt8 := [5, 160, 0, 20, 28, 17, 3, 231, 162, 0, 13, 42, 180, 0, 43, 27, 92, 46, 4, 96, 79, 42]
abbrev dktX2_tell_1 : List UInt8 := dkwX2_tell_1 ++ dktX2_tell_2
def dkwX2_tell_0 : List UInt8 := [42, 27, 182, 0, 245, 154, 0, 6, 16, 155, 172, 42, 180, 0, 43, 27, 46, 61, 42, 180, 0, 40, 27, 46]
abbrev dktX2_tell_0 : List UInt8 := dkwX2_tell_0 ++ dktX2_tell_1
theorem dksX2_tell_0 : cX2_tell.data.toList.drop 0 = dktX2_tell_0 := by decide +kernel
theorem dksX2_tell_1 : cX2_tell.data.toList.drop 24 = dktX2_tell_1 := dk_seg dksX2_tell_0 24 rfl rfl
theorem dksX2_tell_2 : cX2_tell.data.toList.drop 46 = dktX2_tell_2 := dk_seg dksX2_tell_1 22 rfl rfl
theorem dX2_tell_0 : decode cX2_tell 0 = .ok (.aload_n 0, 1) := dk_42 (dk_at dksX2_tell_0 0 rfl rfl)
theorem dX2_tell_1 : decode cX2_tell 1 = .ok (.iload_n 1, 1) := dk_27 (dk_at dksX2_tell_0 1 rfl rfl)
theorem dX2_tell_2 : decode cX2_tell 2 = .ok (.invokevirtual 245, 3) := dk_182 0 245 (dk_at dksX2_tell_0 2 rfl rfl)
theorem dX2_tell_5 : decode cX2_tell 5 = .ok (.ifCond .ne 6, 3) := dk_154 0 6 (dk_at dksX2_tell_0 5 rfl rfl)
theorem dX2_tell_8 : decode cX2_tell 8 = .ok (.bipush (-101), 2) := dk_16 155 (dk_at dksX2_tell_0 8 rfl rfl)
theorem dX2_tell_10 : decode cX2_tell 10 = .ok (.ireturn, 1) := dk_172 (dk_at dksX2_tell_0 10 rfl rfl)
theorem dX2_tell_11 : decode cX2_tell 11 = .ok (.aload_n 0, 1) := dk_42 (dk_at dksX2_tell_0 11 rfl rfl)
theorem dX2_tell_12 : decode cX2_tell 12 = .ok (.getfield 43, 3) := dk_180 0 43 (dk_at dksX2_tell_0 12 rfl rfl)
theorem dX2_tell_15 : decode cX2_tell 15 = .ok (.iload_n 1, 1) := dk_27 (dk_at dksX2_tell_0 15 rfl rfl)
theorem dX2_tell_16 : decode cX2_tell 16 = .ok (.iaload, 1) := dk_46 (dk_at dksX2_tell_0 16 rfl rfl)
theorem dX2_tell_17 : decode cX2_tell 17 = .ok (.istore_n 2, 1) := dk_61 (dk_at dksX2_tell_0 17 rfl rfl)
theorem dX2_tell_18 : decode cX2_tell 18 = .ok (.aload_n 0, 1) := dk_42 (dk_at dksX2_tell_0 18 rfl rfl)
theorem dX2_tell_19 : decode cX2_tell 19 = .ok (.getfield 40, 3) := dk_180 0 40 (dk_at dksX2_tell_0 19 rfl rfl)
theorem dX2_tell_22 : decode cX2_tell 22 = .ok (.iload_n 1, 1) := dk_27 (dk_at dksX2_tell_0 22 rfl rfl)
theorem dX2_tell_23 : decode cX2_tell 23 = .ok (.iaload, 1) := dk_46 (dk_at dksX2_tell_0 23 rfl rfl)
theorem dX2_tell_24 : decode cX2_tell 24 = .ok (.iconst 2, 1) := dk_5 (dk_at dksX2_tell_1 0 rfl rfl)
theorem dX2_tell_25 : decode cX2_tell 25 = .ok (.if_icmp .ne 20, 3) := dk_160 0 20 (dk_at dksX2_tell_1 1 rfl rfl)
theorem dX2_tell_28 : decode cX2_tell 28 = .ok (.iload_n 2, 1) := dk_28 (dk_at dksX2_tell_1 4 rfl rfl)
theorem dX2_tell_29 : decode cX2_tell 29 = .ok (.sipush 999, 3) := dk_17 3 231 (dk_at dksX2_tell_1 5 rfl rfl)
theorem dX2_tell_32 : decode cX2_tell 32 = .ok (.if_icmp .ge 13, 3) := dk_162 0 13 (dk_at dksX2_tell_1 8 rfl rfl)
theorem dX2_tell_35 : decode cX2_tell 35 = .ok (.aload_n 0, 1) := dk_42 (dk_at dksX2_tell_1 11 rfl rfl)
theorem dX2_tell_36 : decode cX2_tell 36 = .ok (.getfield 43, 3) := dk_180 0 43 (dk_at dksX2_tell_1 12 rfl rfl)
theorem dX2_tell_39 : decode cX2_tell 39 = .ok (.iload_n 1, 1) := dk_27 (dk_at dksX2_tell_1 15 rfl rfl)
theorem dX2_tell_40 : decode cX2_tell 40 = .ok (.dup2, 1) := dk_92 (dk_at dksX2_tell_1 16 rfl rfl)
theorem dX2_tell_41 : decode cX2_tell 41 = .ok (.iaload, 1) := dk_46 (dk_at dksX2_tell_1 17 rfl rfl)
theorem dX2_tell_42 : decode cX2_tell 42 = .ok (.iconst 1, 1) := dk_4 (dk_at dksX2_tell_1 18 rfl rfl)
theorem dX2_tell_43 : decode cX2_tell 43 = .ok (.iadd, 1) := dk_96 (dk_at dksX2_tell_1 19 rfl rfl)
theorem dX2_tell_44 : decode cX2_tell 44 = .ok (.iastore, 1) := dk_79 (dk_at dksX2_tell_1 20 rfl rfl)
theorem dX2_tell_45 : decode cX2_tell 45 = .ok (.aload_n 0, 1) := dk_42 (dk_at dksX2_tell_1 21 rfl rfl)
theorem dX2_tell_46 : decode cX2_tell 46 = .ok (.getfield 40, 3) := dk_180 0 40 (dk_at dksX2_tell_2 0 rfl rfl)
theorem dX2_tell_49 : decode cX2_tell 49 = .ok (.iload_n 1, 1) := dk_27 (dk_at dksX2_tell_2 3 rfl rfl)
theorem dX2_tell_50 : decode cX2_tell 50 = .ok (.iaload, 1) := dk_46 (dk_at dksX2_tell_2 4 rfl rfl)
theorem dX2_tell_51 : decode cX2_tell 51 = .ok (.iconst 3, 1) := dk_6 (dk_at dksX2_tell_2 5 rfl rfl)
theorem dX2_tell_52 : decode cX2_tell 52 = .ok (.if_icmp .ne 8, 3) := dk_160 0 8 (dk_at dksX2_tell_2 6 rfl rfl)
theorem dX2_tell_55 : decode cX2_tell 55 = .ok (.aload_n 0, 1) := dk_42 (dk_at dksX2_tell_2 9 rfl rfl)
theorem dX2_tell_56 : decode cX2_tell 56 = .ok (.iload_n 1, 1) := dk_27 (dk_at dksX2_tell_2 10 rfl rfl)
theorem dX2_tell_57 : decode cX2_tell 57 = .ok (.invokevirtual 255, 3) := dk_182 0 255 (dk_at dksX2_tell_2 11 rfl rfl)
theorem dX2_tell_60 : decode cX2_tell 60 = .ok (.iload_n 2, 1) := dk_28 (dk_at dksX2_tell_2 14 rfl rfl)
theorem dX2_tell_61 : decode cX2_tell 61 = .ok (.ireturn, 1) := dk_172 (dk_at dksX2_tell_2 15 rfl rfl)
abbrev cX2_flatten : ByteArray := prog_11_method_49_code
def yX2_flatten : MethodName := ⟨RX2, "flatten", "()I"⟩
def dkwX2_flatten_1 : List UInt8 := [180, 0, 25, 3, 46, 182, 0, 202, 42, 180, 0, 28, 3, 46, 172]
abbrev dktX2_flatten_1 : List UInt8 := dkwX2_flatten_1 ++ []
def dkwX2_flatten_0 : List UInt8 := [42, 182, 0, 236, 153, 0, 6, 16, 153, 172, 42, 180, 0, 28, 3, 46, 158, 0, 14, 42, 3, 42]
abbrev dktX2_flatten_0 : List UInt8 := dkwX2_flatten_0 ++ dktX2_flatten_1
theorem dksX2_flatten_0 : cX2_flatten.data.toList.drop 0 = dktX2_flatten_0 := by decide +kernel
theorem dksX2_flatten_1 : cX2_flatten.data.toList.drop 22 = dktX2_flatten_1 := dk_seg dksX2_flatten_0 22 rfl rfl
theorem dX2_flatten_0 : decode cX2_flatten 0 = .ok (.aload_n 0, 1) := dk_42 (dk_at dksX2_flatten_0 0 rfl rfl)
theorem dX2_flatten_1 : decode cX2_flatten 1 = .ok (.invokevirtual 236, 3) := dk_182 0 236 (dk_at dksX2_flatten_0 1 rfl rfl)
theorem dX2_flatten_4 : decode cX2_flatten 4 = .ok (.ifCond .eq 6, 3) := dk_153 0 6 (dk_at dksX2_flatten_0 4 rfl rfl)
theorem dX2_flatten_7 : decode cX2_flatten 7 = .ok (.bipush (-103), 2) := dk_16 153 (dk_at dksX2_flatten_0 7 rfl rfl)
theorem dX2_flatten_9 : decode cX2_flatten 9 = .ok (.ireturn, 1) := dk_172 (dk_at dksX2_flatten_0 9 rfl rfl)
theorem dX2_flatten_10 : decode cX2_flatten 10 = .ok (.aload_n 0, 1) := dk_42 (dk_at dksX2_flatten_0 10 rfl rfl)
theorem dX2_flatten_11 : decode cX2_flatten 11 = .ok (.getfield 28, 3) := dk_180 0 28 (dk_at dksX2_flatten_0 11 rfl rfl)
theorem dX2_flatten_14 : decode cX2_flatten 14 = .ok (.iconst 0, 1) := dk_3 (dk_at dksX2_flatten_0 14 rfl rfl)
theorem dX2_flatten_15 : decode cX2_flatten 15 = .ok (.iaload, 1) := dk_46 (dk_at dksX2_flatten_0 15 rfl rfl)
theorem dX2_flatten_16 : decode cX2_flatten 16 = .ok (.ifCond .le 14, 3) := dk_158 0 14 (dk_at dksX2_flatten_0 16 rfl rfl)
theorem dX2_flatten_19 : decode cX2_flatten 19 = .ok (.aload_n 0, 1) := dk_42 (dk_at dksX2_flatten_0 19 rfl rfl)
theorem dX2_flatten_20 : decode cX2_flatten 20 = .ok (.iconst 0, 1) := dk_3 (dk_at dksX2_flatten_0 20 rfl rfl)
theorem dX2_flatten_21 : decode cX2_flatten 21 = .ok (.aload_n 0, 1) := dk_42 (dk_at dksX2_flatten_0 21 rfl rfl)
theorem dX2_flatten_22 : decode cX2_flatten 22 = .ok (.getfield 25, 3) := dk_180 0 25 (dk_at dksX2_flatten_1 0 rfl rfl)
theorem dX2_flatten_25 : decode cX2_flatten 25 = .ok (.iconst 0, 1) := dk_3 (dk_at dksX2_flatten_1 3 rfl rfl)
theorem dX2_flatten_26 : decode cX2_flatten 26 = .ok (.iaload, 1) := dk_46 (dk_at dksX2_flatten_1 4 rfl rfl)
theorem dX2_flatten_27 : decode cX2_flatten 27 = .ok (.invokevirtual 202, 3) := dk_182 0 202 (dk_at dksX2_flatten_1 5 rfl rfl)
theorem dX2_flatten_30 : decode cX2_flatten 30 = .ok (.aload_n 0, 1) := dk_42 (dk_at dksX2_flatten_1 8 rfl rfl)
theorem dX2_flatten_31 : decode cX2_flatten 31 = .ok (.getfield 28, 3) := dk_180 0 28 (dk_at dksX2_flatten_1 9 rfl rfl)
theorem dX2_flatten_34 : decode cX2_flatten 34 = .ok (.iconst 0, 1) := dk_3 (dk_at dksX2_flatten_1 12 rfl rfl)
theorem dX2_flatten_35 : decode cX2_flatten 35 = .ok (.iaload, 1) := dk_46 (dk_at dksX2_flatten_1 13 rfl rfl)
theorem dX2_flatten_36 : decode cX2_flatten 36 = .ok (.ireturn, 1) := dk_172 (dk_at dksX2_flatten_1 14 rfl rfl)
abbrev cX2_ledger : ByteArray := prog_11_method_51_code
def yX2_ledger : MethodName := ⟨RX2, "ledger", "(I)I"⟩
def dkwX2_ledger_1 : List UInt8 := [167, 0, 8, 42, 27, 182, 1, 8, 172]
abbrev dktX2_ledger_1 : List UInt8 := dkwX2_ledger_1 ++ []
def dkwX2_ledger_0 : List UInt8 := [27, 133, 9, 20, 1, 6, 184, 0, 94, 154, 0, 6, 16, 154, 172, 42, 182, 0, 236, 153, 0, 8, 16, 153]
abbrev dktX2_ledger_0 : List UInt8 := dkwX2_ledger_0 ++ dktX2_ledger_1
theorem dksX2_ledger_0 : cX2_ledger.data.toList.drop 0 = dktX2_ledger_0 := by decide +kernel
theorem dksX2_ledger_1 : cX2_ledger.data.toList.drop 24 = dktX2_ledger_1 := dk_seg dksX2_ledger_0 24 rfl rfl
theorem dX2_ledger_0 : decode cX2_ledger 0 = .ok (.iload_n 1, 1) := dk_27 (dk_at dksX2_ledger_0 0 rfl rfl)
theorem dX2_ledger_1 : decode cX2_ledger 1 = .ok (.i2l, 1) := dk_133 (dk_at dksX2_ledger_0 1 rfl rfl)
theorem dX2_ledger_2 : decode cX2_ledger 2 = .ok (.lconst 0, 1) := dk_9 (dk_at dksX2_ledger_0 2 rfl rfl)
theorem dX2_ledger_3 : decode cX2_ledger 3 = .ok (.ldc2_w 262, 3) := dk_20 1 6 (dk_at dksX2_ledger_0 3 rfl rfl)
theorem dX2_ledger_6 : decode cX2_ledger 6 = .ok (.invokestatic 94, 3) := dk_184 0 94 (dk_at dksX2_ledger_0 6 rfl rfl)
theorem dX2_ledger_9 : decode cX2_ledger 9 = .ok (.ifCond .ne 6, 3) := dk_154 0 6 (dk_at dksX2_ledger_0 9 rfl rfl)
theorem dX2_ledger_12 : decode cX2_ledger 12 = .ok (.bipush (-102), 2) := dk_16 154 (dk_at dksX2_ledger_0 12 rfl rfl)
theorem dX2_ledger_14 : decode cX2_ledger 14 = .ok (.ireturn, 1) := dk_172 (dk_at dksX2_ledger_0 14 rfl rfl)
theorem dX2_ledger_15 : decode cX2_ledger 15 = .ok (.aload_n 0, 1) := dk_42 (dk_at dksX2_ledger_0 15 rfl rfl)
theorem dX2_ledger_16 : decode cX2_ledger 16 = .ok (.invokevirtual 236, 3) := dk_182 0 236 (dk_at dksX2_ledger_0 16 rfl rfl)
theorem dX2_ledger_19 : decode cX2_ledger 19 = .ok (.ifCond .eq 8, 3) := dk_153 0 8 (dk_at dksX2_ledger_0 19 rfl rfl)
theorem dX2_ledger_22 : decode cX2_ledger 22 = .ok (.bipush (-103), 2) := dk_16 153 (dk_at dksX2_ledger_0 22 rfl rfl)
theorem dX2_ledger_24 : decode cX2_ledger 24 = .ok (.goto 8, 3) := dk_167 0 8 (dk_at dksX2_ledger_1 0 rfl rfl)
theorem dX2_ledger_27 : decode cX2_ledger 27 = .ok (.aload_n 0, 1) := dk_42 (dk_at dksX2_ledger_1 3 rfl rfl)
theorem dX2_ledger_28 : decode cX2_ledger 28 = .ok (.iload_n 1, 1) := dk_27 (dk_at dksX2_ledger_1 4 rfl rfl)
theorem dX2_ledger_29 : decode cX2_ledger 29 = .ok (.invokevirtual 264, 3) := dk_182 1 8 (dk_at dksX2_ledger_1 5 rfl rfl)
theorem dX2_ledger_32 : decode cX2_ledger 32 = .ok (.ireturn, 1) := dk_172 (dk_at dksX2_ledger_1 8 rfl rfl)
abbrev cX2_ledgerOf : ByteArray := prog_11_method_50_code
def yX2_ledgerOf : MethodName := ⟨RX2, "ledgerOf", "(I)I"⟩
def dkwX2_ledgerOf_4 : List UInt8 := [46, 172, 42, 180, 0, 37, 3, 46, 172]
abbrev dktX2_ledgerOf_4 : List UInt8 := dkwX2_ledgerOf_4 ++ []
def dkwX2_ledgerOf_3 : List UInt8 := [172, 19, 1, 5, 42, 180, 0, 184, 96, 172, 19, 1, 5, 42, 180, 0, 187, 96, 172, 42, 180, 0, 34, 3]
abbrev dktX2_ledgerOf_3 : List UInt8 := dkwX2_ledgerOf_3 ++ dktX2_ledgerOf_4
def dkwX2_ledgerOf_2 : List UInt8 := [42, 3, 182, 1, 2, 172, 42, 3, 42, 180, 0, 28, 3, 46, 182, 0, 196, 172, 42, 180, 0, 31, 3, 46]
abbrev dktX2_ledgerOf_2 : List UInt8 := dkwX2_ledgerOf_2 ++ dktX2_ledgerOf_3
def dkwX2_ledgerOf_1 : List UInt8 := [170, 0, 0, 0, 0, 0, 89, 0, 0, 0, 0, 0, 0, 0, 5, 0, 0, 0, 39, 0, 0, 0, 45, 0, 0, 0, 57, 0, 0, 0, 64, 0, 0, 0, 73, 0, 0, 0, 82]
abbrev dktX2_ledgerOf_1 : List UInt8 := dkwX2_ledgerOf_1 ++ dktX2_ledgerOf_2
def dkwX2_ledgerOf_0 : List UInt8 := [27]
abbrev dktX2_ledgerOf_0 : List UInt8 := dkwX2_ledgerOf_0 ++ dktX2_ledgerOf_1
theorem dksX2_ledgerOf_0 : cX2_ledgerOf.data.toList.drop 0 = dktX2_ledgerOf_0 := by decide +kernel
theorem dksX2_ledgerOf_1 : cX2_ledgerOf.data.toList.drop 1 = dktX2_ledgerOf_1 := dk_seg dksX2_ledgerOf_0 1 rfl rfl
theorem dksX2_ledgerOf_2 : cX2_ledgerOf.data.toList.drop 40 = dktX2_ledgerOf_2 := dk_seg dksX2_ledgerOf_1 39 rfl rfl
theorem dksX2_ledgerOf_3 : cX2_ledgerOf.data.toList.drop 64 = dktX2_ledgerOf_3 := dk_seg dksX2_ledgerOf_2 24 rfl rfl
theorem dksX2_ledgerOf_4 : cX2_ledgerOf.data.toList.drop 88 = dktX2_ledgerOf_4 := dk_seg dksX2_ledgerOf_3 24 rfl rfl
theorem dX2_ledgerOf_0 : decode cX2_ledgerOf 0 = .ok (.iload_n 1, 1) := dk_27 (dk_at dksX2_ledgerOf_0 0 rfl rfl)
theorem dX2_ledgerOf_1 : decode cX2_ledgerOf 1 = .ok (.tableswitch 89 0 5 #[39, 45, 57, 64, 73, 82], 39) := by decide +kernel
theorem dX2_ledgerOf_40 : decode cX2_ledgerOf 40 = .ok (.aload_n 0, 1) := dk_42 (dk_at dksX2_ledgerOf_2 0 rfl rfl)
theorem dX2_ledgerOf_41 : decode cX2_ledgerOf 41 = .ok (.iconst 0, 1) := dk_3 (dk_at dksX2_ledgerOf_2 1 rfl rfl)
theorem dX2_ledgerOf_42 : decode cX2_ledgerOf 42 = .ok (.invokevirtual 258, 3) := dk_182 1 2 (dk_at dksX2_ledgerOf_2 2 rfl rfl)
theorem dX2_ledgerOf_45 : decode cX2_ledgerOf 45 = .ok (.ireturn, 1) := dk_172 (dk_at dksX2_ledgerOf_2 5 rfl rfl)
theorem dX2_ledgerOf_46 : decode cX2_ledgerOf 46 = .ok (.aload_n 0, 1) := dk_42 (dk_at dksX2_ledgerOf_2 6 rfl rfl)
theorem dX2_ledgerOf_47 : decode cX2_ledgerOf 47 = .ok (.iconst 0, 1) := dk_3 (dk_at dksX2_ledgerOf_2 7 rfl rfl)
theorem dX2_ledgerOf_48 : decode cX2_ledgerOf 48 = .ok (.aload_n 0, 1) := dk_42 (dk_at dksX2_ledgerOf_2 8 rfl rfl)
theorem dX2_ledgerOf_49 : decode cX2_ledgerOf 49 = .ok (.getfield 28, 3) := dk_180 0 28 (dk_at dksX2_ledgerOf_2 9 rfl rfl)
theorem dX2_ledgerOf_52 : decode cX2_ledgerOf 52 = .ok (.iconst 0, 1) := dk_3 (dk_at dksX2_ledgerOf_2 12 rfl rfl)
theorem dX2_ledgerOf_53 : decode cX2_ledgerOf 53 = .ok (.iaload, 1) := dk_46 (dk_at dksX2_ledgerOf_2 13 rfl rfl)
theorem dX2_ledgerOf_54 : decode cX2_ledgerOf 54 = .ok (.invokevirtual 196, 3) := dk_182 0 196 (dk_at dksX2_ledgerOf_2 14 rfl rfl)
theorem dX2_ledgerOf_57 : decode cX2_ledgerOf 57 = .ok (.ireturn, 1) := dk_172 (dk_at dksX2_ledgerOf_2 17 rfl rfl)
theorem dX2_ledgerOf_58 : decode cX2_ledgerOf 58 = .ok (.aload_n 0, 1) := dk_42 (dk_at dksX2_ledgerOf_2 18 rfl rfl)
theorem dX2_ledgerOf_59 : decode cX2_ledgerOf 59 = .ok (.getfield 31, 3) := dk_180 0 31 (dk_at dksX2_ledgerOf_2 19 rfl rfl)
theorem dX2_ledgerOf_62 : decode cX2_ledgerOf 62 = .ok (.iconst 0, 1) := dk_3 (dk_at dksX2_ledgerOf_2 22 rfl rfl)
theorem dX2_ledgerOf_63 : decode cX2_ledgerOf 63 = .ok (.iaload, 1) := dk_46 (dk_at dksX2_ledgerOf_2 23 rfl rfl)
theorem dX2_ledgerOf_64 : decode cX2_ledgerOf 64 = .ok (.ireturn, 1) := dk_172 (dk_at dksX2_ledgerOf_3 0 rfl rfl)
theorem dX2_ledgerOf_65 : decode cX2_ledgerOf 65 = .ok (.ldc_w 261, 3) := dk_19 1 5 (dk_at dksX2_ledgerOf_3 1 rfl rfl)
theorem dX2_ledgerOf_68 : decode cX2_ledgerOf 68 = .ok (.aload_n 0, 1) := dk_42 (dk_at dksX2_ledgerOf_3 4 rfl rfl)
theorem dX2_ledgerOf_69 : decode cX2_ledgerOf 69 = .ok (.getfield 184, 3) := dk_180 0 184 (dk_at dksX2_ledgerOf_3 5 rfl rfl)
theorem dX2_ledgerOf_72 : decode cX2_ledgerOf 72 = .ok (.iadd, 1) := dk_96 (dk_at dksX2_ledgerOf_3 8 rfl rfl)
theorem dX2_ledgerOf_73 : decode cX2_ledgerOf 73 = .ok (.ireturn, 1) := dk_172 (dk_at dksX2_ledgerOf_3 9 rfl rfl)
theorem dX2_ledgerOf_74 : decode cX2_ledgerOf 74 = .ok (.ldc_w 261, 3) := dk_19 1 5 (dk_at dksX2_ledgerOf_3 10 rfl rfl)
theorem dX2_ledgerOf_77 : decode cX2_ledgerOf 77 = .ok (.aload_n 0, 1) := dk_42 (dk_at dksX2_ledgerOf_3 13 rfl rfl)
theorem dX2_ledgerOf_78 : decode cX2_ledgerOf 78 = .ok (.getfield 187, 3) := dk_180 0 187 (dk_at dksX2_ledgerOf_3 14 rfl rfl)
theorem dX2_ledgerOf_81 : decode cX2_ledgerOf 81 = .ok (.iadd, 1) := dk_96 (dk_at dksX2_ledgerOf_3 17 rfl rfl)
theorem dX2_ledgerOf_82 : decode cX2_ledgerOf 82 = .ok (.ireturn, 1) := dk_172 (dk_at dksX2_ledgerOf_3 18 rfl rfl)
theorem dX2_ledgerOf_83 : decode cX2_ledgerOf 83 = .ok (.aload_n 0, 1) := dk_42 (dk_at dksX2_ledgerOf_3 19 rfl rfl)
theorem dX2_ledgerOf_84 : decode cX2_ledgerOf 84 = .ok (.getfield 34, 3) := dk_180 0 34 (dk_at dksX2_ledgerOf_3 20 rfl rfl)
theorem dX2_ledgerOf_87 : decode cX2_ledgerOf 87 = .ok (.iconst 0, 1) := dk_3 (dk_at dksX2_ledgerOf_3 23 rfl rfl)
theorem dX2_ledgerOf_88 : decode cX2_ledgerOf 88 = .ok (.iaload, 1) := dk_46 (dk_at dksX2_ledgerOf_4 0 rfl rfl)
theorem dX2_ledgerOf_89 : decode cX2_ledgerOf 89 = .ok (.ireturn, 1) := dk_172 (dk_at dksX2_ledgerOf_4 1 rfl rfl)
theorem dX2_ledgerOf_90 : decode cX2_ledgerOf 90 = .ok (.aload_n 0, 1) := dk_42 (dk_at dksX2_ledgerOf_4 2 rfl rfl)
theorem dX2_ledgerOf_91 : decode cX2_ledgerOf 91 = .ok (.getfield 37, 3) := dk_180 0 37 (dk_at dksX2_ledgerOf_4 3 rfl rfl)
theorem dX2_ledgerOf_94 : decode cX2_ledgerOf 94 = .ok (.iconst 0, 1) := dk_3 (dk_at dksX2_ledgerOf_4 6 rfl rfl)
theorem dX2_ledgerOf_95 : decode cX2_ledgerOf 95 = .ok (.iaload, 1) := dk_46 (dk_at dksX2_ledgerOf_4 7 rfl rfl)
theorem dX2_ledgerOf_96 : decode cX2_ledgerOf 96 = .ok (.ireturn, 1) := dk_172 (dk_at dksX2_ledgerOf_4 8 rfl rfl)
abbrev cX2_tall : ByteArray := prog_11_method_21_code
def yX2_tall : MethodName := ⟨RX2, "tall", "(I)I"⟩
def dkwX2_tall_2 : List UInt8 := [167, 0, 4, 28, 61, 132, 3, 1, 167, 255, 207, 28, 172]
abbrev dktX2_tall_2 : List UInt8 := dkwX2_tall_2 ++ []
def dkwX2_tall_1 : List UInt8 := [160, 0, 12, 42, 27, 29, 182, 0, 154, 167, 0, 4, 2, 54, 4, 21, 4, 28, 164, 0, 8, 21, 4]
abbrev dktX2_tall_1 : List UInt8 := dkwX2_tall_1 ++ dktX2_tall_2
def dkwX2_tall_0 : List UInt8 := [2, 61, 3, 62, 29, 16, 100, 162, 0, 49, 42, 180, 0, 22, 16, 100, 27, 104, 29, 96, 46, 4]
abbrev dktX2_tall_0 : List UInt8 := dkwX2_tall_0 ++ dktX2_tall_1
theorem dksX2_tall_0 : cX2_tall.data.toList.drop 0 = dktX2_tall_0 := by decide +kernel
theorem dksX2_tall_1 : cX2_tall.data.toList.drop 22 = dktX2_tall_1 := dk_seg dksX2_tall_0 22 rfl rfl
theorem dksX2_tall_2 : cX2_tall.data.toList.drop 45 = dktX2_tall_2 := dk_seg dksX2_tall_1 23 rfl rfl
theorem dX2_tall_0 : decode cX2_tall 0 = .ok (.iconst (-1), 1) := dk_2 (dk_at dksX2_tall_0 0 rfl rfl)
theorem dX2_tall_1 : decode cX2_tall 1 = .ok (.istore_n 2, 1) := dk_61 (dk_at dksX2_tall_0 1 rfl rfl)
theorem dX2_tall_2 : decode cX2_tall 2 = .ok (.iconst 0, 1) := dk_3 (dk_at dksX2_tall_0 2 rfl rfl)
theorem dX2_tall_3 : decode cX2_tall 3 = .ok (.istore_n 3, 1) := dk_62 (dk_at dksX2_tall_0 3 rfl rfl)
theorem dX2_tall_4 : decode cX2_tall 4 = .ok (.iload_n 3, 1) := dk_29 (dk_at dksX2_tall_0 4 rfl rfl)
theorem dX2_tall_5 : decode cX2_tall 5 = .ok (.bipush 100, 2) := dk_16 100 (dk_at dksX2_tall_0 5 rfl rfl)
theorem dX2_tall_7 : decode cX2_tall 7 = .ok (.if_icmp .ge 49, 3) := dk_162 0 49 (dk_at dksX2_tall_0 7 rfl rfl)
theorem dX2_tall_10 : decode cX2_tall 10 = .ok (.aload_n 0, 1) := dk_42 (dk_at dksX2_tall_0 10 rfl rfl)
theorem dX2_tall_11 : decode cX2_tall 11 = .ok (.getfield 22, 3) := dk_180 0 22 (dk_at dksX2_tall_0 11 rfl rfl)
theorem dX2_tall_14 : decode cX2_tall 14 = .ok (.bipush 100, 2) := dk_16 100 (dk_at dksX2_tall_0 14 rfl rfl)
theorem dX2_tall_16 : decode cX2_tall 16 = .ok (.iload_n 1, 1) := dk_27 (dk_at dksX2_tall_0 16 rfl rfl)
theorem dX2_tall_17 : decode cX2_tall 17 = .ok (.imul, 1) := dk_104 (dk_at dksX2_tall_0 17 rfl rfl)
theorem dX2_tall_18 : decode cX2_tall 18 = .ok (.iload_n 3, 1) := dk_29 (dk_at dksX2_tall_0 18 rfl rfl)
theorem dX2_tall_19 : decode cX2_tall 19 = .ok (.iadd, 1) := dk_96 (dk_at dksX2_tall_0 19 rfl rfl)
theorem dX2_tall_20 : decode cX2_tall 20 = .ok (.iaload, 1) := dk_46 (dk_at dksX2_tall_0 20 rfl rfl)
theorem dX2_tall_21 : decode cX2_tall 21 = .ok (.iconst 1, 1) := dk_4 (dk_at dksX2_tall_0 21 rfl rfl)
theorem dX2_tall_22 : decode cX2_tall 22 = .ok (.if_icmp .ne 12, 3) := dk_160 0 12 (dk_at dksX2_tall_1 0 rfl rfl)
theorem dX2_tall_25 : decode cX2_tall 25 = .ok (.aload_n 0, 1) := dk_42 (dk_at dksX2_tall_1 3 rfl rfl)
theorem dX2_tall_26 : decode cX2_tall 26 = .ok (.iload_n 1, 1) := dk_27 (dk_at dksX2_tall_1 4 rfl rfl)
theorem dX2_tall_27 : decode cX2_tall 27 = .ok (.iload_n 3, 1) := dk_29 (dk_at dksX2_tall_1 5 rfl rfl)
theorem dX2_tall_28 : decode cX2_tall 28 = .ok (.invokevirtual 154, 3) := dk_182 0 154 (dk_at dksX2_tall_1 6 rfl rfl)
theorem dX2_tall_31 : decode cX2_tall 31 = .ok (.goto 4, 3) := dk_167 0 4 (dk_at dksX2_tall_1 9 rfl rfl)
theorem dX2_tall_34 : decode cX2_tall 34 = .ok (.iconst (-1), 1) := dk_2 (dk_at dksX2_tall_1 12 rfl rfl)
theorem dX2_tall_35 : decode cX2_tall 35 = .ok (.istore 4, 2) := dk_54 4 (dk_at dksX2_tall_1 13 rfl rfl)
theorem dX2_tall_37 : decode cX2_tall 37 = .ok (.iload 4, 2) := dk_21 4 (dk_at dksX2_tall_1 15 rfl rfl)
theorem dX2_tall_39 : decode cX2_tall 39 = .ok (.iload_n 2, 1) := dk_28 (dk_at dksX2_tall_1 17 rfl rfl)
theorem dX2_tall_40 : decode cX2_tall 40 = .ok (.if_icmp .le 8, 3) := dk_164 0 8 (dk_at dksX2_tall_1 18 rfl rfl)
theorem dX2_tall_43 : decode cX2_tall 43 = .ok (.iload 4, 2) := dk_21 4 (dk_at dksX2_tall_1 21 rfl rfl)
theorem dX2_tall_45 : decode cX2_tall 45 = .ok (.goto 4, 3) := dk_167 0 4 (dk_at dksX2_tall_2 0 rfl rfl)
theorem dX2_tall_48 : decode cX2_tall 48 = .ok (.iload_n 2, 1) := dk_28 (dk_at dksX2_tall_2 3 rfl rfl)
theorem dX2_tall_49 : decode cX2_tall 49 = .ok (.istore_n 2, 1) := dk_61 (dk_at dksX2_tall_2 4 rfl rfl)
theorem dX2_tall_50 : decode cX2_tall 50 = .ok (.iinc 3 1, 3) := dk_132 3 1 (dk_at dksX2_tall_2 5 rfl rfl)
theorem dX2_tall_53 : decode cX2_tall 53 = .ok (.goto (-49), 3) := dk_167 255 207 (dk_at dksX2_tall_2 8 rfl rfl)
theorem dX2_tall_56 : decode cX2_tall 56 = .ok (.iload_n 2, 1) := dk_28 (dk_at dksX2_tall_2 11 rfl rfl)
theorem dX2_tall_57 : decode cX2_tall 57 = .ok (.ireturn, 1) := dk_172 (dk_at dksX2_tall_2 12 rfl rfl)
abbrev cX2_would : ByteArray := prog_11_method_53_code
def yX2_would : MethodName := ⟨RX2, "would", "(I)I"⟩
def dkwX2_would_1 : List UInt8 := [180, 0, 28, 3, 46, 16, 40, 160, 0, 8, 16, 153, 167, 0, 8, 42, 27, 182, 1, 14, 172]
abbrev dktX2_would_1 : List UInt8 := dkwX2_would_1 ++ []
def dkwX2_would_0 : List UInt8 := [27, 133, 9, 20, 0, 240, 184, 0, 94, 154, 0, 6, 16, 154, 172, 42, 182, 0, 236, 154, 0, 14, 42]
abbrev dktX2_would_0 : List UInt8 := dkwX2_would_0 ++ dktX2_would_1
theorem dksX2_would_0 : cX2_would.data.toList.drop 0 = dktX2_would_0 := by decide +kernel
theorem dksX2_would_1 : cX2_would.data.toList.drop 23 = dktX2_would_1 := dk_seg dksX2_would_0 23 rfl rfl
theorem dX2_would_0 : decode cX2_would 0 = .ok (.iload_n 1, 1) := dk_27 (dk_at dksX2_would_0 0 rfl rfl)
theorem dX2_would_1 : decode cX2_would 1 = .ok (.i2l, 1) := dk_133 (dk_at dksX2_would_0 1 rfl rfl)
theorem dX2_would_2 : decode cX2_would 2 = .ok (.lconst 0, 1) := dk_9 (dk_at dksX2_would_0 2 rfl rfl)
theorem dX2_would_3 : decode cX2_would 3 = .ok (.ldc2_w 240, 3) := dk_20 0 240 (dk_at dksX2_would_0 3 rfl rfl)
theorem dX2_would_6 : decode cX2_would 6 = .ok (.invokestatic 94, 3) := dk_184 0 94 (dk_at dksX2_would_0 6 rfl rfl)
theorem dX2_would_9 : decode cX2_would 9 = .ok (.ifCond .ne 6, 3) := dk_154 0 6 (dk_at dksX2_would_0 9 rfl rfl)
theorem dX2_would_12 : decode cX2_would 12 = .ok (.bipush (-102), 2) := dk_16 154 (dk_at dksX2_would_0 12 rfl rfl)
theorem dX2_would_14 : decode cX2_would 14 = .ok (.ireturn, 1) := dk_172 (dk_at dksX2_would_0 14 rfl rfl)
theorem dX2_would_15 : decode cX2_would 15 = .ok (.aload_n 0, 1) := dk_42 (dk_at dksX2_would_0 15 rfl rfl)
theorem dX2_would_16 : decode cX2_would 16 = .ok (.invokevirtual 236, 3) := dk_182 0 236 (dk_at dksX2_would_0 16 rfl rfl)
theorem dX2_would_19 : decode cX2_would 19 = .ok (.ifCond .ne 14, 3) := dk_154 0 14 (dk_at dksX2_would_0 19 rfl rfl)
theorem dX2_would_22 : decode cX2_would 22 = .ok (.aload_n 0, 1) := dk_42 (dk_at dksX2_would_0 22 rfl rfl)
theorem dX2_would_23 : decode cX2_would 23 = .ok (.getfield 28, 3) := dk_180 0 28 (dk_at dksX2_would_1 0 rfl rfl)
theorem dX2_would_26 : decode cX2_would 26 = .ok (.iconst 0, 1) := dk_3 (dk_at dksX2_would_1 3 rfl rfl)
theorem dX2_would_27 : decode cX2_would 27 = .ok (.iaload, 1) := dk_46 (dk_at dksX2_would_1 4 rfl rfl)
theorem dX2_would_28 : decode cX2_would 28 = .ok (.bipush 40, 2) := dk_16 40 (dk_at dksX2_would_1 5 rfl rfl)
theorem dX2_would_30 : decode cX2_would 30 = .ok (.if_icmp .ne 8, 3) := dk_160 0 8 (dk_at dksX2_would_1 7 rfl rfl)
theorem dX2_would_33 : decode cX2_would 33 = .ok (.bipush (-103), 2) := dk_16 153 (dk_at dksX2_would_1 10 rfl rfl)
theorem dX2_would_35 : decode cX2_would 35 = .ok (.goto 8, 3) := dk_167 0 8 (dk_at dksX2_would_1 12 rfl rfl)
theorem dX2_would_38 : decode cX2_would 38 = .ok (.aload_n 0, 1) := dk_42 (dk_at dksX2_would_1 15 rfl rfl)
theorem dX2_would_39 : decode cX2_would 39 = .ok (.iload_n 1, 1) := dk_27 (dk_at dksX2_would_1 16 rfl rfl)
theorem dX2_would_40 : decode cX2_would 40 = .ok (.invokevirtual 270, 3) := dk_182 1 14 (dk_at dksX2_would_1 17 rfl rfl)
theorem dX2_would_43 : decode cX2_would 43 = .ok (.ireturn, 1) := dk_172 (dk_at dksX2_would_1 20 rfl rfl)
abbrev cX2_wouldOf : ByteArray := prog_11_method_52_code
def yX2_wouldOf : MethodName := ⟨RX2, "wouldOf", "(I)I"⟩
def dkwX2_wouldOf_1 : List UInt8 := [180, 0, 171, 172]
abbrev dktX2_wouldOf_1 : List UInt8 := dkwX2_wouldOf_1 ++ []
def dkwX2_wouldOf_0 : List UInt8 := [42, 180, 0, 22, 27, 46, 4, 160, 0, 5, 2, 172, 42, 182, 1, 11, 42, 4, 27, 182, 0, 227, 42]
abbrev dktX2_wouldOf_0 : List UInt8 := dkwX2_wouldOf_0 ++ dktX2_wouldOf_1
theorem dksX2_wouldOf_0 : cX2_wouldOf.data.toList.drop 0 = dktX2_wouldOf_0 := by decide +kernel
theorem dksX2_wouldOf_1 : cX2_wouldOf.data.toList.drop 23 = dktX2_wouldOf_1 := dk_seg dksX2_wouldOf_0 23 rfl rfl
theorem dX2_wouldOf_0 : decode cX2_wouldOf 0 = .ok (.aload_n 0, 1) := dk_42 (dk_at dksX2_wouldOf_0 0 rfl rfl)
theorem dX2_wouldOf_1 : decode cX2_wouldOf 1 = .ok (.getfield 22, 3) := dk_180 0 22 (dk_at dksX2_wouldOf_0 1 rfl rfl)
theorem dX2_wouldOf_4 : decode cX2_wouldOf 4 = .ok (.iload_n 1, 1) := dk_27 (dk_at dksX2_wouldOf_0 4 rfl rfl)
theorem dX2_wouldOf_5 : decode cX2_wouldOf 5 = .ok (.iaload, 1) := dk_46 (dk_at dksX2_wouldOf_0 5 rfl rfl)
theorem dX2_wouldOf_6 : decode cX2_wouldOf 6 = .ok (.iconst 1, 1) := dk_4 (dk_at dksX2_wouldOf_0 6 rfl rfl)
theorem dX2_wouldOf_7 : decode cX2_wouldOf 7 = .ok (.if_icmp .ne 5, 3) := dk_160 0 5 (dk_at dksX2_wouldOf_0 7 rfl rfl)
theorem dX2_wouldOf_10 : decode cX2_wouldOf 10 = .ok (.iconst (-1), 1) := dk_2 (dk_at dksX2_wouldOf_0 10 rfl rfl)
theorem dX2_wouldOf_11 : decode cX2_wouldOf 11 = .ok (.ireturn, 1) := dk_172 (dk_at dksX2_wouldOf_0 11 rfl rfl)
theorem dX2_wouldOf_12 : decode cX2_wouldOf 12 = .ok (.aload_n 0, 1) := dk_42 (dk_at dksX2_wouldOf_0 12 rfl rfl)
theorem dX2_wouldOf_13 : decode cX2_wouldOf 13 = .ok (.invokevirtual 267, 3) := dk_182 1 11 (dk_at dksX2_wouldOf_0 13 rfl rfl)
theorem dX2_wouldOf_16 : decode cX2_wouldOf 16 = .ok (.aload_n 0, 1) := dk_42 (dk_at dksX2_wouldOf_0 16 rfl rfl)
theorem dX2_wouldOf_17 : decode cX2_wouldOf 17 = .ok (.iconst 1, 1) := dk_4 (dk_at dksX2_wouldOf_0 17 rfl rfl)
theorem dX2_wouldOf_18 : decode cX2_wouldOf 18 = .ok (.iload_n 1, 1) := dk_27 (dk_at dksX2_wouldOf_0 18 rfl rfl)
theorem dX2_wouldOf_19 : decode cX2_wouldOf 19 = .ok (.invokevirtual 227, 3) := dk_182 0 227 (dk_at dksX2_wouldOf_0 19 rfl rfl)
theorem dX2_wouldOf_22 : decode cX2_wouldOf 22 = .ok (.aload_n 0, 1) := dk_42 (dk_at dksX2_wouldOf_0 22 rfl rfl)
theorem dX2_wouldOf_23 : decode cX2_wouldOf 23 = .ok (.getfield 171, 3) := dk_180 0 171 (dk_at dksX2_wouldOf_1 0 rfl rfl)
theorem dX2_wouldOf_26 : decode cX2_wouldOf 26 = .ok (.ireturn, 1) := dk_172 (dk_at dksX2_wouldOf_1 3 rfl rfl)
abbrev cX2_begin : ByteArray := prog_11_method_17_code
def yX2_begin : MethodName := ⟨RX2, "begin", "()V"⟩
def dkwX2_begin_5 : List UInt8 := [180, 0, 37, 4, 3, 79, 42, 42, 180, 0, 138, 181, 0, 141, 42, 42, 180, 0, 144, 181, 0, 147, 177]
abbrev dktX2_begin_5 : List UInt8 := dkwX2_begin_5 ++ []
def dkwX2_begin_4 : List UInt8 := [3, 46, 79, 42, 180, 0, 31, 4, 42, 180, 0, 31, 3, 46, 79, 42, 180, 0, 34, 4, 3, 79, 42]
abbrev dktX2_begin_4 : List UInt8 := dkwX2_begin_4 ++ dktX2_begin_5
def dkwX2_begin_3 : List UInt8 := [167, 255, 187, 42, 180, 0, 25, 4, 42, 180, 0, 25, 3, 46, 79, 42, 180, 0, 28, 4, 42, 180, 0, 28]
abbrev dktX2_begin_3 : List UInt8 := dkwX2_begin_3 ++ dktX2_begin_4
def dkwX2_begin_2 : List UInt8 := [180, 0, 19, 27, 46, 79, 42, 180, 0, 22, 16, 100, 27, 96, 42, 180, 0, 22, 27, 46, 79, 132, 1, 1]
abbrev dktX2_begin_2 : List UInt8 := dkwX2_begin_2 ++ dktX2_begin_3
def dkwX2_begin_1 : List UInt8 := [180, 0, 16, 16, 100, 27, 96, 42, 180, 0, 16, 27, 46, 79, 42, 180, 0, 19, 16, 100, 27, 96, 42]
abbrev dktX2_begin_1 : List UInt8 := dkwX2_begin_1 ++ dktX2_begin_2
def dkwX2_begin_0 : List UInt8 := [3, 60, 27, 16, 100, 162, 0, 69, 42, 180, 0, 13, 16, 100, 27, 96, 42, 180, 0, 13, 27, 46, 79, 42]
abbrev dktX2_begin_0 : List UInt8 := dkwX2_begin_0 ++ dktX2_begin_1
theorem dksX2_begin_0 : cX2_begin.data.toList.drop 0 = dktX2_begin_0 := by decide +kernel
theorem dksX2_begin_1 : cX2_begin.data.toList.drop 24 = dktX2_begin_1 := dk_seg dksX2_begin_0 24 rfl rfl
theorem dksX2_begin_2 : cX2_begin.data.toList.drop 47 = dktX2_begin_2 := dk_seg dksX2_begin_1 23 rfl rfl
theorem dksX2_begin_3 : cX2_begin.data.toList.drop 71 = dktX2_begin_3 := dk_seg dksX2_begin_2 24 rfl rfl
theorem dksX2_begin_4 : cX2_begin.data.toList.drop 95 = dktX2_begin_4 := dk_seg dksX2_begin_3 24 rfl rfl
theorem dksX2_begin_5 : cX2_begin.data.toList.drop 118 = dktX2_begin_5 := dk_seg dksX2_begin_4 23 rfl rfl
theorem dX2_begin_0 : decode cX2_begin 0 = .ok (.iconst 0, 1) := dk_3 (dk_at dksX2_begin_0 0 rfl rfl)
theorem dX2_begin_1 : decode cX2_begin 1 = .ok (.istore_n 1, 1) := dk_60 (dk_at dksX2_begin_0 1 rfl rfl)
theorem dX2_begin_2 : decode cX2_begin 2 = .ok (.iload_n 1, 1) := dk_27 (dk_at dksX2_begin_0 2 rfl rfl)
theorem dX2_begin_3 : decode cX2_begin 3 = .ok (.bipush 100, 2) := dk_16 100 (dk_at dksX2_begin_0 3 rfl rfl)
theorem dX2_begin_5 : decode cX2_begin 5 = .ok (.if_icmp .ge 69, 3) := dk_162 0 69 (dk_at dksX2_begin_0 5 rfl rfl)
theorem dX2_begin_8 : decode cX2_begin 8 = .ok (.aload_n 0, 1) := dk_42 (dk_at dksX2_begin_0 8 rfl rfl)
theorem dX2_begin_9 : decode cX2_begin 9 = .ok (.getfield 13, 3) := dk_180 0 13 (dk_at dksX2_begin_0 9 rfl rfl)
theorem dX2_begin_12 : decode cX2_begin 12 = .ok (.bipush 100, 2) := dk_16 100 (dk_at dksX2_begin_0 12 rfl rfl)
theorem dX2_begin_14 : decode cX2_begin 14 = .ok (.iload_n 1, 1) := dk_27 (dk_at dksX2_begin_0 14 rfl rfl)
theorem dX2_begin_15 : decode cX2_begin 15 = .ok (.iadd, 1) := dk_96 (dk_at dksX2_begin_0 15 rfl rfl)
theorem dX2_begin_16 : decode cX2_begin 16 = .ok (.aload_n 0, 1) := dk_42 (dk_at dksX2_begin_0 16 rfl rfl)
theorem dX2_begin_17 : decode cX2_begin 17 = .ok (.getfield 13, 3) := dk_180 0 13 (dk_at dksX2_begin_0 17 rfl rfl)
theorem dX2_begin_20 : decode cX2_begin 20 = .ok (.iload_n 1, 1) := dk_27 (dk_at dksX2_begin_0 20 rfl rfl)
theorem dX2_begin_21 : decode cX2_begin 21 = .ok (.iaload, 1) := dk_46 (dk_at dksX2_begin_0 21 rfl rfl)
theorem dX2_begin_22 : decode cX2_begin 22 = .ok (.iastore, 1) := dk_79 (dk_at dksX2_begin_0 22 rfl rfl)
theorem dX2_begin_23 : decode cX2_begin 23 = .ok (.aload_n 0, 1) := dk_42 (dk_at dksX2_begin_0 23 rfl rfl)
theorem dX2_begin_24 : decode cX2_begin 24 = .ok (.getfield 16, 3) := dk_180 0 16 (dk_at dksX2_begin_1 0 rfl rfl)
theorem dX2_begin_27 : decode cX2_begin 27 = .ok (.bipush 100, 2) := dk_16 100 (dk_at dksX2_begin_1 3 rfl rfl)
theorem dX2_begin_29 : decode cX2_begin 29 = .ok (.iload_n 1, 1) := dk_27 (dk_at dksX2_begin_1 5 rfl rfl)
theorem dX2_begin_30 : decode cX2_begin 30 = .ok (.iadd, 1) := dk_96 (dk_at dksX2_begin_1 6 rfl rfl)
theorem dX2_begin_31 : decode cX2_begin 31 = .ok (.aload_n 0, 1) := dk_42 (dk_at dksX2_begin_1 7 rfl rfl)
theorem dX2_begin_32 : decode cX2_begin 32 = .ok (.getfield 16, 3) := dk_180 0 16 (dk_at dksX2_begin_1 8 rfl rfl)
theorem dX2_begin_35 : decode cX2_begin 35 = .ok (.iload_n 1, 1) := dk_27 (dk_at dksX2_begin_1 11 rfl rfl)
theorem dX2_begin_36 : decode cX2_begin 36 = .ok (.iaload, 1) := dk_46 (dk_at dksX2_begin_1 12 rfl rfl)
theorem dX2_begin_37 : decode cX2_begin 37 = .ok (.iastore, 1) := dk_79 (dk_at dksX2_begin_1 13 rfl rfl)
theorem dX2_begin_38 : decode cX2_begin 38 = .ok (.aload_n 0, 1) := dk_42 (dk_at dksX2_begin_1 14 rfl rfl)
theorem dX2_begin_39 : decode cX2_begin 39 = .ok (.getfield 19, 3) := dk_180 0 19 (dk_at dksX2_begin_1 15 rfl rfl)
theorem dX2_begin_42 : decode cX2_begin 42 = .ok (.bipush 100, 2) := dk_16 100 (dk_at dksX2_begin_1 18 rfl rfl)
theorem dX2_begin_44 : decode cX2_begin 44 = .ok (.iload_n 1, 1) := dk_27 (dk_at dksX2_begin_1 20 rfl rfl)
theorem dX2_begin_45 : decode cX2_begin 45 = .ok (.iadd, 1) := dk_96 (dk_at dksX2_begin_1 21 rfl rfl)
theorem dX2_begin_46 : decode cX2_begin 46 = .ok (.aload_n 0, 1) := dk_42 (dk_at dksX2_begin_1 22 rfl rfl)
theorem dX2_begin_47 : decode cX2_begin 47 = .ok (.getfield 19, 3) := dk_180 0 19 (dk_at dksX2_begin_2 0 rfl rfl)
theorem dX2_begin_50 : decode cX2_begin 50 = .ok (.iload_n 1, 1) := dk_27 (dk_at dksX2_begin_2 3 rfl rfl)
theorem dX2_begin_51 : decode cX2_begin 51 = .ok (.iaload, 1) := dk_46 (dk_at dksX2_begin_2 4 rfl rfl)
theorem dX2_begin_52 : decode cX2_begin 52 = .ok (.iastore, 1) := dk_79 (dk_at dksX2_begin_2 5 rfl rfl)
theorem dX2_begin_53 : decode cX2_begin 53 = .ok (.aload_n 0, 1) := dk_42 (dk_at dksX2_begin_2 6 rfl rfl)
theorem dX2_begin_54 : decode cX2_begin 54 = .ok (.getfield 22, 3) := dk_180 0 22 (dk_at dksX2_begin_2 7 rfl rfl)
theorem dX2_begin_57 : decode cX2_begin 57 = .ok (.bipush 100, 2) := dk_16 100 (dk_at dksX2_begin_2 10 rfl rfl)
theorem dX2_begin_59 : decode cX2_begin 59 = .ok (.iload_n 1, 1) := dk_27 (dk_at dksX2_begin_2 12 rfl rfl)
theorem dX2_begin_60 : decode cX2_begin 60 = .ok (.iadd, 1) := dk_96 (dk_at dksX2_begin_2 13 rfl rfl)
theorem dX2_begin_61 : decode cX2_begin 61 = .ok (.aload_n 0, 1) := dk_42 (dk_at dksX2_begin_2 14 rfl rfl)
theorem dX2_begin_62 : decode cX2_begin 62 = .ok (.getfield 22, 3) := dk_180 0 22 (dk_at dksX2_begin_2 15 rfl rfl)
theorem dX2_begin_65 : decode cX2_begin 65 = .ok (.iload_n 1, 1) := dk_27 (dk_at dksX2_begin_2 18 rfl rfl)
theorem dX2_begin_66 : decode cX2_begin 66 = .ok (.iaload, 1) := dk_46 (dk_at dksX2_begin_2 19 rfl rfl)
theorem dX2_begin_67 : decode cX2_begin 67 = .ok (.iastore, 1) := dk_79 (dk_at dksX2_begin_2 20 rfl rfl)
theorem dX2_begin_68 : decode cX2_begin 68 = .ok (.iinc 1 1, 3) := dk_132 1 1 (dk_at dksX2_begin_2 21 rfl rfl)
theorem dX2_begin_71 : decode cX2_begin 71 = .ok (.goto (-69), 3) := dk_167 255 187 (dk_at dksX2_begin_3 0 rfl rfl)
theorem dX2_begin_74 : decode cX2_begin 74 = .ok (.aload_n 0, 1) := dk_42 (dk_at dksX2_begin_3 3 rfl rfl)
theorem dX2_begin_75 : decode cX2_begin 75 = .ok (.getfield 25, 3) := dk_180 0 25 (dk_at dksX2_begin_3 4 rfl rfl)
theorem dX2_begin_78 : decode cX2_begin 78 = .ok (.iconst 1, 1) := dk_4 (dk_at dksX2_begin_3 7 rfl rfl)
theorem dX2_begin_79 : decode cX2_begin 79 = .ok (.aload_n 0, 1) := dk_42 (dk_at dksX2_begin_3 8 rfl rfl)
theorem dX2_begin_80 : decode cX2_begin 80 = .ok (.getfield 25, 3) := dk_180 0 25 (dk_at dksX2_begin_3 9 rfl rfl)
theorem dX2_begin_83 : decode cX2_begin 83 = .ok (.iconst 0, 1) := dk_3 (dk_at dksX2_begin_3 12 rfl rfl)
theorem dX2_begin_84 : decode cX2_begin 84 = .ok (.iaload, 1) := dk_46 (dk_at dksX2_begin_3 13 rfl rfl)
theorem dX2_begin_85 : decode cX2_begin 85 = .ok (.iastore, 1) := dk_79 (dk_at dksX2_begin_3 14 rfl rfl)
theorem dX2_begin_86 : decode cX2_begin 86 = .ok (.aload_n 0, 1) := dk_42 (dk_at dksX2_begin_3 15 rfl rfl)
theorem dX2_begin_87 : decode cX2_begin 87 = .ok (.getfield 28, 3) := dk_180 0 28 (dk_at dksX2_begin_3 16 rfl rfl)
theorem dX2_begin_90 : decode cX2_begin 90 = .ok (.iconst 1, 1) := dk_4 (dk_at dksX2_begin_3 19 rfl rfl)
theorem dX2_begin_91 : decode cX2_begin 91 = .ok (.aload_n 0, 1) := dk_42 (dk_at dksX2_begin_3 20 rfl rfl)
theorem dX2_begin_92 : decode cX2_begin 92 = .ok (.getfield 28, 3) := dk_180 0 28 (dk_at dksX2_begin_3 21 rfl rfl)
theorem dX2_begin_95 : decode cX2_begin 95 = .ok (.iconst 0, 1) := dk_3 (dk_at dksX2_begin_4 0 rfl rfl)
theorem dX2_begin_96 : decode cX2_begin 96 = .ok (.iaload, 1) := dk_46 (dk_at dksX2_begin_4 1 rfl rfl)
theorem dX2_begin_97 : decode cX2_begin 97 = .ok (.iastore, 1) := dk_79 (dk_at dksX2_begin_4 2 rfl rfl)
theorem dX2_begin_98 : decode cX2_begin 98 = .ok (.aload_n 0, 1) := dk_42 (dk_at dksX2_begin_4 3 rfl rfl)
theorem dX2_begin_99 : decode cX2_begin 99 = .ok (.getfield 31, 3) := dk_180 0 31 (dk_at dksX2_begin_4 4 rfl rfl)
theorem dX2_begin_102 : decode cX2_begin 102 = .ok (.iconst 1, 1) := dk_4 (dk_at dksX2_begin_4 7 rfl rfl)
theorem dX2_begin_103 : decode cX2_begin 103 = .ok (.aload_n 0, 1) := dk_42 (dk_at dksX2_begin_4 8 rfl rfl)
theorem dX2_begin_104 : decode cX2_begin 104 = .ok (.getfield 31, 3) := dk_180 0 31 (dk_at dksX2_begin_4 9 rfl rfl)
theorem dX2_begin_107 : decode cX2_begin 107 = .ok (.iconst 0, 1) := dk_3 (dk_at dksX2_begin_4 12 rfl rfl)
theorem dX2_begin_108 : decode cX2_begin 108 = .ok (.iaload, 1) := dk_46 (dk_at dksX2_begin_4 13 rfl rfl)
theorem dX2_begin_109 : decode cX2_begin 109 = .ok (.iastore, 1) := dk_79 (dk_at dksX2_begin_4 14 rfl rfl)
theorem dX2_begin_110 : decode cX2_begin 110 = .ok (.aload_n 0, 1) := dk_42 (dk_at dksX2_begin_4 15 rfl rfl)
theorem dX2_begin_111 : decode cX2_begin 111 = .ok (.getfield 34, 3) := dk_180 0 34 (dk_at dksX2_begin_4 16 rfl rfl)
theorem dX2_begin_114 : decode cX2_begin 114 = .ok (.iconst 1, 1) := dk_4 (dk_at dksX2_begin_4 19 rfl rfl)
theorem dX2_begin_115 : decode cX2_begin 115 = .ok (.iconst 0, 1) := dk_3 (dk_at dksX2_begin_4 20 rfl rfl)
theorem dX2_begin_116 : decode cX2_begin 116 = .ok (.iastore, 1) := dk_79 (dk_at dksX2_begin_4 21 rfl rfl)
theorem dX2_begin_117 : decode cX2_begin 117 = .ok (.aload_n 0, 1) := dk_42 (dk_at dksX2_begin_4 22 rfl rfl)
theorem dX2_begin_118 : decode cX2_begin 118 = .ok (.getfield 37, 3) := dk_180 0 37 (dk_at dksX2_begin_5 0 rfl rfl)
theorem dX2_begin_121 : decode cX2_begin 121 = .ok (.iconst 1, 1) := dk_4 (dk_at dksX2_begin_5 3 rfl rfl)
theorem dX2_begin_122 : decode cX2_begin 122 = .ok (.iconst 0, 1) := dk_3 (dk_at dksX2_begin_5 4 rfl rfl)
theorem dX2_begin_123 : decode cX2_begin 123 = .ok (.iastore, 1) := dk_79 (dk_at dksX2_begin_5 5 rfl rfl)
theorem dX2_begin_124 : decode cX2_begin 124 = .ok (.aload_n 0, 1) := dk_42 (dk_at dksX2_begin_5 6 rfl rfl)
theorem dX2_begin_125 : decode cX2_begin 125 = .ok (.aload_n 0, 1) := dk_42 (dk_at dksX2_begin_5 7 rfl rfl)
theorem dX2_begin_126 : decode cX2_begin 126 = .ok (.getfield 138, 3) := dk_180 0 138 (dk_at dksX2_begin_5 8 rfl rfl)
theorem dX2_begin_129 : decode cX2_begin 129 = .ok (.putfield 141, 3) := dk_181 0 141 (dk_at dksX2_begin_5 11 rfl rfl)
theorem dX2_begin_132 : decode cX2_begin 132 = .ok (.aload_n 0, 1) := dk_42 (dk_at dksX2_begin_5 14 rfl rfl)
theorem dX2_begin_133 : decode cX2_begin 133 = .ok (.aload_n 0, 1) := dk_42 (dk_at dksX2_begin_5 15 rfl rfl)
theorem dX2_begin_134 : decode cX2_begin 134 = .ok (.getfield 144, 3) := dk_180 0 144 (dk_at dksX2_begin_5 16 rfl rfl)
theorem dX2_begin_137 : decode cX2_begin 137 = .ok (.putfield 147, 3) := dk_181 0 147 (dk_at dksX2_begin_5 19 rfl rfl)
theorem dX2_begin_140 : decode cX2_begin 140 = .ok (.return_, 1) := dk_177 (dk_at dksX2_begin_5 22 rfl rfl)
abbrev cX2_dear : ByteArray := prog_11_method_55_code
def yX2_dear : MethodName := ⟨RX2, "dear", "(I)I"⟩
def dkwX2_dear_1 : List UInt8 := [167, 0, 8, 42, 27, 182, 1, 17, 172]
abbrev dktX2_dear_1 : List UInt8 := dkwX2_dear_1 ++ []
def dkwX2_dear_0 : List UInt8 := [27, 133, 9, 10, 184, 0, 94, 154, 0, 6, 16, 154, 172, 42, 182, 0, 236, 153, 0, 8, 16, 153]
abbrev dktX2_dear_0 : List UInt8 := dkwX2_dear_0 ++ dktX2_dear_1
theorem dksX2_dear_0 : cX2_dear.data.toList.drop 0 = dktX2_dear_0 := by decide +kernel
theorem dksX2_dear_1 : cX2_dear.data.toList.drop 22 = dktX2_dear_1 := dk_seg dksX2_dear_0 22 rfl rfl
theorem dX2_dear_0 : decode cX2_dear 0 = .ok (.iload_n 1, 1) := dk_27 (dk_at dksX2_dear_0 0 rfl rfl)
theorem dX2_dear_1 : decode cX2_dear 1 = .ok (.i2l, 1) := dk_133 (dk_at dksX2_dear_0 1 rfl rfl)
theorem dX2_dear_2 : decode cX2_dear 2 = .ok (.lconst 0, 1) := dk_9 (dk_at dksX2_dear_0 2 rfl rfl)
theorem dX2_dear_3 : decode cX2_dear 3 = .ok (.lconst 1, 1) := dk_10 (dk_at dksX2_dear_0 3 rfl rfl)
theorem dX2_dear_4 : decode cX2_dear 4 = .ok (.invokestatic 94, 3) := dk_184 0 94 (dk_at dksX2_dear_0 4 rfl rfl)
theorem dX2_dear_7 : decode cX2_dear 7 = .ok (.ifCond .ne 6, 3) := dk_154 0 6 (dk_at dksX2_dear_0 7 rfl rfl)
theorem dX2_dear_10 : decode cX2_dear 10 = .ok (.bipush (-102), 2) := dk_16 154 (dk_at dksX2_dear_0 10 rfl rfl)
theorem dX2_dear_12 : decode cX2_dear 12 = .ok (.ireturn, 1) := dk_172 (dk_at dksX2_dear_0 12 rfl rfl)
theorem dX2_dear_13 : decode cX2_dear 13 = .ok (.aload_n 0, 1) := dk_42 (dk_at dksX2_dear_0 13 rfl rfl)
theorem dX2_dear_14 : decode cX2_dear 14 = .ok (.invokevirtual 236, 3) := dk_182 0 236 (dk_at dksX2_dear_0 14 rfl rfl)
theorem dX2_dear_17 : decode cX2_dear 17 = .ok (.ifCond .eq 8, 3) := dk_153 0 8 (dk_at dksX2_dear_0 17 rfl rfl)
theorem dX2_dear_20 : decode cX2_dear 20 = .ok (.bipush (-103), 2) := dk_16 153 (dk_at dksX2_dear_0 20 rfl rfl)
theorem dX2_dear_22 : decode cX2_dear 22 = .ok (.goto 8, 3) := dk_167 0 8 (dk_at dksX2_dear_1 0 rfl rfl)
theorem dX2_dear_25 : decode cX2_dear 25 = .ok (.aload_n 0, 1) := dk_42 (dk_at dksX2_dear_1 3 rfl rfl)
theorem dX2_dear_26 : decode cX2_dear 26 = .ok (.iload_n 1, 1) := dk_27 (dk_at dksX2_dear_1 4 rfl rfl)
theorem dX2_dear_27 : decode cX2_dear 27 = .ok (.invokevirtual 273, 3) := dk_182 1 17 (dk_at dksX2_dear_1 5 rfl rfl)
theorem dX2_dear_30 : decode cX2_dear 30 = .ok (.ireturn, 1) := dk_172 (dk_at dksX2_dear_1 8 rfl rfl)
abbrev cX2_dearOf : ByteArray := prog_11_method_54_code
def yX2_dearOf : MethodName := ⟨RX2, "dearOf", "(I)I"⟩
def dkwX2_dearOf_3 : List UInt8 := [167, 0, 4, 29, 172]
abbrev dktX2_dearOf_3 : List UInt8 := dkwX2_dearOf_3 ++ []
def dkwX2_dearOf_2 : List UInt8 := [21, 5, 29, 164, 0, 8, 21, 5, 167, 0, 4, 29, 62, 132, 4, 1, 167, 255, 201, 27, 154, 0, 7, 28]
abbrev dktX2_dearOf_2 : List UInt8 := dkwX2_dearOf_2 ++ dktX2_dearOf_3
def dkwX2_dearOf_1 : List UInt8 := [162, 0, 43, 42, 21, 4, 182, 1, 14, 54, 5, 21, 5, 29, 164, 0, 8, 21, 4, 167, 0, 4, 28, 61]
abbrev dktX2_dearOf_1 : List UInt8 := dkwX2_dearOf_1 ++ dktX2_dearOf_2
def dkwX2_dearOf_0 : List UInt8 := [2, 61, 2, 62, 3, 54, 4, 21, 4, 16, 100, 162, 0, 54, 42, 180, 0, 28, 3, 46, 16, 40]
abbrev dktX2_dearOf_0 : List UInt8 := dkwX2_dearOf_0 ++ dktX2_dearOf_1
theorem dksX2_dearOf_0 : cX2_dearOf.data.toList.drop 0 = dktX2_dearOf_0 := by decide +kernel
theorem dksX2_dearOf_1 : cX2_dearOf.data.toList.drop 22 = dktX2_dearOf_1 := dk_seg dksX2_dearOf_0 22 rfl rfl
theorem dksX2_dearOf_2 : cX2_dearOf.data.toList.drop 46 = dktX2_dearOf_2 := dk_seg dksX2_dearOf_1 24 rfl rfl
theorem dksX2_dearOf_3 : cX2_dearOf.data.toList.drop 70 = dktX2_dearOf_3 := dk_seg dksX2_dearOf_2 24 rfl rfl
theorem dX2_dearOf_0 : decode cX2_dearOf 0 = .ok (.iconst (-1), 1) := dk_2 (dk_at dksX2_dearOf_0 0 rfl rfl)
theorem dX2_dearOf_1 : decode cX2_dearOf 1 = .ok (.istore_n 2, 1) := dk_61 (dk_at dksX2_dearOf_0 1 rfl rfl)
theorem dX2_dearOf_2 : decode cX2_dearOf 2 = .ok (.iconst (-1), 1) := dk_2 (dk_at dksX2_dearOf_0 2 rfl rfl)
theorem dX2_dearOf_3 : decode cX2_dearOf 3 = .ok (.istore_n 3, 1) := dk_62 (dk_at dksX2_dearOf_0 3 rfl rfl)
theorem dX2_dearOf_4 : decode cX2_dearOf 4 = .ok (.iconst 0, 1) := dk_3 (dk_at dksX2_dearOf_0 4 rfl rfl)
theorem dX2_dearOf_5 : decode cX2_dearOf 5 = .ok (.istore 4, 2) := dk_54 4 (dk_at dksX2_dearOf_0 5 rfl rfl)
theorem dX2_dearOf_7 : decode cX2_dearOf 7 = .ok (.iload 4, 2) := dk_21 4 (dk_at dksX2_dearOf_0 7 rfl rfl)
theorem dX2_dearOf_9 : decode cX2_dearOf 9 = .ok (.bipush 100, 2) := dk_16 100 (dk_at dksX2_dearOf_0 9 rfl rfl)
theorem dX2_dearOf_11 : decode cX2_dearOf 11 = .ok (.if_icmp .ge 54, 3) := dk_162 0 54 (dk_at dksX2_dearOf_0 11 rfl rfl)
theorem dX2_dearOf_14 : decode cX2_dearOf 14 = .ok (.aload_n 0, 1) := dk_42 (dk_at dksX2_dearOf_0 14 rfl rfl)
theorem dX2_dearOf_15 : decode cX2_dearOf 15 = .ok (.getfield 28, 3) := dk_180 0 28 (dk_at dksX2_dearOf_0 15 rfl rfl)
theorem dX2_dearOf_18 : decode cX2_dearOf 18 = .ok (.iconst 0, 1) := dk_3 (dk_at dksX2_dearOf_0 18 rfl rfl)
theorem dX2_dearOf_19 : decode cX2_dearOf 19 = .ok (.iaload, 1) := dk_46 (dk_at dksX2_dearOf_0 19 rfl rfl)
theorem dX2_dearOf_20 : decode cX2_dearOf 20 = .ok (.bipush 40, 2) := dk_16 40 (dk_at dksX2_dearOf_0 20 rfl rfl)
theorem dX2_dearOf_22 : decode cX2_dearOf 22 = .ok (.if_icmp .ge 43, 3) := dk_162 0 43 (dk_at dksX2_dearOf_1 0 rfl rfl)
theorem dX2_dearOf_25 : decode cX2_dearOf 25 = .ok (.aload_n 0, 1) := dk_42 (dk_at dksX2_dearOf_1 3 rfl rfl)
theorem dX2_dearOf_26 : decode cX2_dearOf 26 = .ok (.iload 4, 2) := dk_21 4 (dk_at dksX2_dearOf_1 4 rfl rfl)
theorem dX2_dearOf_28 : decode cX2_dearOf 28 = .ok (.invokevirtual 270, 3) := dk_182 1 14 (dk_at dksX2_dearOf_1 6 rfl rfl)
theorem dX2_dearOf_31 : decode cX2_dearOf 31 = .ok (.istore 5, 2) := dk_54 5 (dk_at dksX2_dearOf_1 9 rfl rfl)
theorem dX2_dearOf_33 : decode cX2_dearOf 33 = .ok (.iload 5, 2) := dk_21 5 (dk_at dksX2_dearOf_1 11 rfl rfl)
theorem dX2_dearOf_35 : decode cX2_dearOf 35 = .ok (.iload_n 3, 1) := dk_29 (dk_at dksX2_dearOf_1 13 rfl rfl)
theorem dX2_dearOf_36 : decode cX2_dearOf 36 = .ok (.if_icmp .le 8, 3) := dk_164 0 8 (dk_at dksX2_dearOf_1 14 rfl rfl)
theorem dX2_dearOf_39 : decode cX2_dearOf 39 = .ok (.iload 4, 2) := dk_21 4 (dk_at dksX2_dearOf_1 17 rfl rfl)
theorem dX2_dearOf_41 : decode cX2_dearOf 41 = .ok (.goto 4, 3) := dk_167 0 4 (dk_at dksX2_dearOf_1 19 rfl rfl)
theorem dX2_dearOf_44 : decode cX2_dearOf 44 = .ok (.iload_n 2, 1) := dk_28 (dk_at dksX2_dearOf_1 22 rfl rfl)
theorem dX2_dearOf_45 : decode cX2_dearOf 45 = .ok (.istore_n 2, 1) := dk_61 (dk_at dksX2_dearOf_1 23 rfl rfl)
theorem dX2_dearOf_46 : decode cX2_dearOf 46 = .ok (.iload 5, 2) := dk_21 5 (dk_at dksX2_dearOf_2 0 rfl rfl)
theorem dX2_dearOf_48 : decode cX2_dearOf 48 = .ok (.iload_n 3, 1) := dk_29 (dk_at dksX2_dearOf_2 2 rfl rfl)
theorem dX2_dearOf_49 : decode cX2_dearOf 49 = .ok (.if_icmp .le 8, 3) := dk_164 0 8 (dk_at dksX2_dearOf_2 3 rfl rfl)
theorem dX2_dearOf_52 : decode cX2_dearOf 52 = .ok (.iload 5, 2) := dk_21 5 (dk_at dksX2_dearOf_2 6 rfl rfl)
theorem dX2_dearOf_54 : decode cX2_dearOf 54 = .ok (.goto 4, 3) := dk_167 0 4 (dk_at dksX2_dearOf_2 8 rfl rfl)
theorem dX2_dearOf_57 : decode cX2_dearOf 57 = .ok (.iload_n 3, 1) := dk_29 (dk_at dksX2_dearOf_2 11 rfl rfl)
theorem dX2_dearOf_58 : decode cX2_dearOf 58 = .ok (.istore_n 3, 1) := dk_62 (dk_at dksX2_dearOf_2 12 rfl rfl)
theorem dX2_dearOf_59 : decode cX2_dearOf 59 = .ok (.iinc 4 1, 3) := dk_132 4 1 (dk_at dksX2_dearOf_2 13 rfl rfl)
theorem dX2_dearOf_62 : decode cX2_dearOf 62 = .ok (.goto (-55), 3) := dk_167 255 201 (dk_at dksX2_dearOf_2 16 rfl rfl)
theorem dX2_dearOf_65 : decode cX2_dearOf 65 = .ok (.iload_n 1, 1) := dk_27 (dk_at dksX2_dearOf_2 19 rfl rfl)
theorem dX2_dearOf_66 : decode cX2_dearOf 66 = .ok (.ifCond .ne 7, 3) := dk_154 0 7 (dk_at dksX2_dearOf_2 20 rfl rfl)
theorem dX2_dearOf_69 : decode cX2_dearOf 69 = .ok (.iload_n 2, 1) := dk_28 (dk_at dksX2_dearOf_2 23 rfl rfl)
theorem dX2_dearOf_70 : decode cX2_dearOf 70 = .ok (.goto 4, 3) := dk_167 0 4 (dk_at dksX2_dearOf_3 0 rfl rfl)
theorem dX2_dearOf_73 : decode cX2_dearOf 73 = .ok (.iload_n 3, 1) := dk_29 (dk_at dksX2_dearOf_3 3 rfl rfl)
theorem dX2_dearOf_74 : decode cX2_dearOf 74 = .ok (.ireturn, 1) := dk_172 (dk_at dksX2_dearOf_3 4 rfl rfl)
abbrev cX2_replay : ByteArray := prog_11_method_57_code
def yX2_replay : MethodName := ⟨RX2, "replay", "(III)I"⟩
def dkwX2_replay_2 : List UInt8 := [29, 182, 1, 20, 172]
abbrev dktX2_replay_2 : List UInt8 := dkwX2_replay_2 ++ []
def dkwX2_replay_1 : List UInt8 := [184, 0, 94, 154, 0, 6, 16, 154, 172, 42, 182, 0, 236, 153, 0, 8, 16, 153, 167, 0, 10, 42, 27, 28]
abbrev dktX2_replay_1 : List UInt8 := dkwX2_replay_1 ++ dktX2_replay_2
def dkwX2_replay_0 : List UInt8 := [27, 133, 10, 20, 0, 101, 184, 0, 94, 153, 0, 21, 27, 28, 184, 0, 122, 153, 0, 13, 29, 133, 9, 10]
abbrev dktX2_replay_0 : List UInt8 := dkwX2_replay_0 ++ dktX2_replay_1
theorem dksX2_replay_0 : cX2_replay.data.toList.drop 0 = dktX2_replay_0 := by decide +kernel
theorem dksX2_replay_1 : cX2_replay.data.toList.drop 24 = dktX2_replay_1 := dk_seg dksX2_replay_0 24 rfl rfl
theorem dksX2_replay_2 : cX2_replay.data.toList.drop 48 = dktX2_replay_2 := dk_seg dksX2_replay_1 24 rfl rfl
theorem dX2_replay_0 : decode cX2_replay 0 = .ok (.iload_n 1, 1) := dk_27 (dk_at dksX2_replay_0 0 rfl rfl)
theorem dX2_replay_1 : decode cX2_replay 1 = .ok (.i2l, 1) := dk_133 (dk_at dksX2_replay_0 1 rfl rfl)
theorem dX2_replay_2 : decode cX2_replay 2 = .ok (.lconst 1, 1) := dk_10 (dk_at dksX2_replay_0 2 rfl rfl)
theorem dX2_replay_3 : decode cX2_replay 3 = .ok (.ldc2_w 101, 3) := dk_20 0 101 (dk_at dksX2_replay_0 3 rfl rfl)
theorem dX2_replay_6 : decode cX2_replay 6 = .ok (.invokestatic 94, 3) := dk_184 0 94 (dk_at dksX2_replay_0 6 rfl rfl)
theorem dX2_replay_9 : decode cX2_replay 9 = .ok (.ifCond .eq 21, 3) := dk_153 0 21 (dk_at dksX2_replay_0 9 rfl rfl)
theorem dX2_replay_12 : decode cX2_replay 12 = .ok (.iload_n 1, 1) := dk_27 (dk_at dksX2_replay_0 12 rfl rfl)
theorem dX2_replay_13 : decode cX2_replay 13 = .ok (.iload_n 2, 1) := dk_28 (dk_at dksX2_replay_0 13 rfl rfl)
theorem dX2_replay_14 : decode cX2_replay 14 = .ok (.invokestatic 122, 3) := dk_184 0 122 (dk_at dksX2_replay_0 14 rfl rfl)
theorem dX2_replay_17 : decode cX2_replay 17 = .ok (.ifCond .eq 13, 3) := dk_153 0 13 (dk_at dksX2_replay_0 17 rfl rfl)
theorem dX2_replay_20 : decode cX2_replay 20 = .ok (.iload_n 3, 1) := dk_29 (dk_at dksX2_replay_0 20 rfl rfl)
theorem dX2_replay_21 : decode cX2_replay 21 = .ok (.i2l, 1) := dk_133 (dk_at dksX2_replay_0 21 rfl rfl)
theorem dX2_replay_22 : decode cX2_replay 22 = .ok (.lconst 0, 1) := dk_9 (dk_at dksX2_replay_0 22 rfl rfl)
theorem dX2_replay_23 : decode cX2_replay 23 = .ok (.lconst 1, 1) := dk_10 (dk_at dksX2_replay_0 23 rfl rfl)
theorem dX2_replay_24 : decode cX2_replay 24 = .ok (.invokestatic 94, 3) := dk_184 0 94 (dk_at dksX2_replay_1 0 rfl rfl)
theorem dX2_replay_27 : decode cX2_replay 27 = .ok (.ifCond .ne 6, 3) := dk_154 0 6 (dk_at dksX2_replay_1 3 rfl rfl)
theorem dX2_replay_30 : decode cX2_replay 30 = .ok (.bipush (-102), 2) := dk_16 154 (dk_at dksX2_replay_1 6 rfl rfl)
theorem dX2_replay_32 : decode cX2_replay 32 = .ok (.ireturn, 1) := dk_172 (dk_at dksX2_replay_1 8 rfl rfl)
theorem dX2_replay_33 : decode cX2_replay 33 = .ok (.aload_n 0, 1) := dk_42 (dk_at dksX2_replay_1 9 rfl rfl)
theorem dX2_replay_34 : decode cX2_replay 34 = .ok (.invokevirtual 236, 3) := dk_182 0 236 (dk_at dksX2_replay_1 10 rfl rfl)
theorem dX2_replay_37 : decode cX2_replay 37 = .ok (.ifCond .eq 8, 3) := dk_153 0 8 (dk_at dksX2_replay_1 13 rfl rfl)
theorem dX2_replay_40 : decode cX2_replay 40 = .ok (.bipush (-103), 2) := dk_16 153 (dk_at dksX2_replay_1 16 rfl rfl)
theorem dX2_replay_42 : decode cX2_replay 42 = .ok (.goto 10, 3) := dk_167 0 10 (dk_at dksX2_replay_1 18 rfl rfl)
theorem dX2_replay_45 : decode cX2_replay 45 = .ok (.aload_n 0, 1) := dk_42 (dk_at dksX2_replay_1 21 rfl rfl)
theorem dX2_replay_46 : decode cX2_replay 46 = .ok (.iload_n 1, 1) := dk_27 (dk_at dksX2_replay_1 22 rfl rfl)
theorem dX2_replay_47 : decode cX2_replay 47 = .ok (.iload_n 2, 1) := dk_28 (dk_at dksX2_replay_1 23 rfl rfl)
theorem dX2_replay_48 : decode cX2_replay 48 = .ok (.iload_n 3, 1) := dk_29 (dk_at dksX2_replay_2 0 rfl rfl)
theorem dX2_replay_49 : decode cX2_replay 49 = .ok (.invokevirtual 276, 3) := dk_182 1 20 (dk_at dksX2_replay_2 1 rfl rfl)
theorem dX2_replay_52 : decode cX2_replay 52 = .ok (.ireturn, 1) := dk_172 (dk_at dksX2_replay_2 4 rfl rfl)
abbrev cX2_replayOf : ByteArray := prog_11_method_56_code
def yX2_replayOf : MethodName := ⟨RX2, "replayOf", "(III)I"⟩
def dkwX2_replayOf_3 : List UInt8 := [29, 154, 0, 12, 42, 180, 0, 37, 4, 46, 167, 0, 8, 42, 4, 182, 1, 2, 172]
abbrev dktX2_replayOf_3 : List UInt8 := dkwX2_replayOf_3 ++ []
def dkwX2_replayOf_2 : List UInt8 := [182, 0, 233, 167, 0, 15, 42, 4, 42, 180, 0, 46, 21, 4, 46, 182, 0, 227, 132, 4, 1, 167, 255, 205]
abbrev dktX2_replayOf_2 : List UInt8 := dkwX2_replayOf_2 ++ dktX2_replayOf_3
def dkwX2_replayOf_1 : List UInt8 := [162, 0, 48, 42, 180, 0, 46, 21, 4, 46, 156, 0, 20, 42, 4, 2, 42, 180, 0, 46, 21, 4, 46, 100]
abbrev dktX2_replayOf_1 : List UInt8 := dkwX2_replayOf_1 ++ dktX2_replayOf_2
def dkwX2_replayOf_0 : List UInt8 := [42, 4, 182, 0, 214, 42, 27, 181, 0, 141, 42, 28, 181, 0, 147, 3, 54, 4, 21, 4, 42, 180, 0, 211]
abbrev dktX2_replayOf_0 : List UInt8 := dkwX2_replayOf_0 ++ dktX2_replayOf_1
theorem dksX2_replayOf_0 : cX2_replayOf.data.toList.drop 0 = dktX2_replayOf_0 := by decide +kernel
theorem dksX2_replayOf_1 : cX2_replayOf.data.toList.drop 24 = dktX2_replayOf_1 := dk_seg dksX2_replayOf_0 24 rfl rfl
theorem dksX2_replayOf_2 : cX2_replayOf.data.toList.drop 48 = dktX2_replayOf_2 := dk_seg dksX2_replayOf_1 24 rfl rfl
theorem dksX2_replayOf_3 : cX2_replayOf.data.toList.drop 72 = dktX2_replayOf_3 := dk_seg dksX2_replayOf_2 24 rfl rfl
theorem dX2_replayOf_0 : decode cX2_replayOf 0 = .ok (.aload_n 0, 1) := dk_42 (dk_at dksX2_replayOf_0 0 rfl rfl)
theorem dX2_replayOf_1 : decode cX2_replayOf 1 = .ok (.iconst 1, 1) := dk_4 (dk_at dksX2_replayOf_0 1 rfl rfl)
theorem dX2_replayOf_2 : decode cX2_replayOf 2 = .ok (.invokevirtual 214, 3) := dk_182 0 214 (dk_at dksX2_replayOf_0 2 rfl rfl)
theorem dX2_replayOf_5 : decode cX2_replayOf 5 = .ok (.aload_n 0, 1) := dk_42 (dk_at dksX2_replayOf_0 5 rfl rfl)
theorem dX2_replayOf_6 : decode cX2_replayOf 6 = .ok (.iload_n 1, 1) := dk_27 (dk_at dksX2_replayOf_0 6 rfl rfl)
theorem dX2_replayOf_7 : decode cX2_replayOf 7 = .ok (.putfield 141, 3) := dk_181 0 141 (dk_at dksX2_replayOf_0 7 rfl rfl)
theorem dX2_replayOf_10 : decode cX2_replayOf 10 = .ok (.aload_n 0, 1) := dk_42 (dk_at dksX2_replayOf_0 10 rfl rfl)
theorem dX2_replayOf_11 : decode cX2_replayOf 11 = .ok (.iload_n 2, 1) := dk_28 (dk_at dksX2_replayOf_0 11 rfl rfl)
theorem dX2_replayOf_12 : decode cX2_replayOf 12 = .ok (.putfield 147, 3) := dk_181 0 147 (dk_at dksX2_replayOf_0 12 rfl rfl)
theorem dX2_replayOf_15 : decode cX2_replayOf 15 = .ok (.iconst 0, 1) := dk_3 (dk_at dksX2_replayOf_0 15 rfl rfl)
theorem dX2_replayOf_16 : decode cX2_replayOf 16 = .ok (.istore 4, 2) := dk_54 4 (dk_at dksX2_replayOf_0 16 rfl rfl)
theorem dX2_replayOf_18 : decode cX2_replayOf 18 = .ok (.iload 4, 2) := dk_21 4 (dk_at dksX2_replayOf_0 18 rfl rfl)
theorem dX2_replayOf_20 : decode cX2_replayOf 20 = .ok (.aload_n 0, 1) := dk_42 (dk_at dksX2_replayOf_0 20 rfl rfl)
theorem dX2_replayOf_21 : decode cX2_replayOf 21 = .ok (.getfield 211, 3) := dk_180 0 211 (dk_at dksX2_replayOf_0 21 rfl rfl)
theorem dX2_replayOf_24 : decode cX2_replayOf 24 = .ok (.if_icmp .ge 48, 3) := dk_162 0 48 (dk_at dksX2_replayOf_1 0 rfl rfl)
theorem dX2_replayOf_27 : decode cX2_replayOf 27 = .ok (.aload_n 0, 1) := dk_42 (dk_at dksX2_replayOf_1 3 rfl rfl)
theorem dX2_replayOf_28 : decode cX2_replayOf 28 = .ok (.getfield 46, 3) := dk_180 0 46 (dk_at dksX2_replayOf_1 4 rfl rfl)
theorem dX2_replayOf_31 : decode cX2_replayOf 31 = .ok (.iload 4, 2) := dk_21 4 (dk_at dksX2_replayOf_1 7 rfl rfl)
theorem dX2_replayOf_33 : decode cX2_replayOf 33 = .ok (.iaload, 1) := dk_46 (dk_at dksX2_replayOf_1 9 rfl rfl)
theorem dX2_replayOf_34 : decode cX2_replayOf 34 = .ok (.ifCond .ge 20, 3) := dk_156 0 20 (dk_at dksX2_replayOf_1 10 rfl rfl)
theorem dX2_replayOf_37 : decode cX2_replayOf 37 = .ok (.aload_n 0, 1) := dk_42 (dk_at dksX2_replayOf_1 13 rfl rfl)
theorem dX2_replayOf_38 : decode cX2_replayOf 38 = .ok (.iconst 1, 1) := dk_4 (dk_at dksX2_replayOf_1 14 rfl rfl)
theorem dX2_replayOf_39 : decode cX2_replayOf 39 = .ok (.iconst (-1), 1) := dk_2 (dk_at dksX2_replayOf_1 15 rfl rfl)
theorem dX2_replayOf_40 : decode cX2_replayOf 40 = .ok (.aload_n 0, 1) := dk_42 (dk_at dksX2_replayOf_1 16 rfl rfl)
theorem dX2_replayOf_41 : decode cX2_replayOf 41 = .ok (.getfield 46, 3) := dk_180 0 46 (dk_at dksX2_replayOf_1 17 rfl rfl)
theorem dX2_replayOf_44 : decode cX2_replayOf 44 = .ok (.iload 4, 2) := dk_21 4 (dk_at dksX2_replayOf_1 20 rfl rfl)
theorem dX2_replayOf_46 : decode cX2_replayOf 46 = .ok (.iaload, 1) := dk_46 (dk_at dksX2_replayOf_1 22 rfl rfl)
theorem dX2_replayOf_47 : decode cX2_replayOf 47 = .ok (.isub, 1) := dk_100 (dk_at dksX2_replayOf_1 23 rfl rfl)
theorem dX2_replayOf_48 : decode cX2_replayOf 48 = .ok (.invokevirtual 233, 3) := dk_182 0 233 (dk_at dksX2_replayOf_2 0 rfl rfl)
theorem dX2_replayOf_51 : decode cX2_replayOf 51 = .ok (.goto 15, 3) := dk_167 0 15 (dk_at dksX2_replayOf_2 3 rfl rfl)
theorem dX2_replayOf_54 : decode cX2_replayOf 54 = .ok (.aload_n 0, 1) := dk_42 (dk_at dksX2_replayOf_2 6 rfl rfl)
theorem dX2_replayOf_55 : decode cX2_replayOf 55 = .ok (.iconst 1, 1) := dk_4 (dk_at dksX2_replayOf_2 7 rfl rfl)
theorem dX2_replayOf_56 : decode cX2_replayOf 56 = .ok (.aload_n 0, 1) := dk_42 (dk_at dksX2_replayOf_2 8 rfl rfl)
theorem dX2_replayOf_57 : decode cX2_replayOf 57 = .ok (.getfield 46, 3) := dk_180 0 46 (dk_at dksX2_replayOf_2 9 rfl rfl)
theorem dX2_replayOf_60 : decode cX2_replayOf 60 = .ok (.iload 4, 2) := dk_21 4 (dk_at dksX2_replayOf_2 12 rfl rfl)
theorem dX2_replayOf_62 : decode cX2_replayOf 62 = .ok (.iaload, 1) := dk_46 (dk_at dksX2_replayOf_2 14 rfl rfl)
theorem dX2_replayOf_63 : decode cX2_replayOf 63 = .ok (.invokevirtual 227, 3) := dk_182 0 227 (dk_at dksX2_replayOf_2 15 rfl rfl)
theorem dX2_replayOf_66 : decode cX2_replayOf 66 = .ok (.iinc 4 1, 3) := dk_132 4 1 (dk_at dksX2_replayOf_2 18 rfl rfl)
theorem dX2_replayOf_69 : decode cX2_replayOf 69 = .ok (.goto (-51), 3) := dk_167 255 205 (dk_at dksX2_replayOf_2 21 rfl rfl)
theorem dX2_replayOf_72 : decode cX2_replayOf 72 = .ok (.iload_n 3, 1) := dk_29 (dk_at dksX2_replayOf_3 0 rfl rfl)
theorem dX2_replayOf_73 : decode cX2_replayOf 73 = .ok (.ifCond .ne 12, 3) := dk_154 0 12 (dk_at dksX2_replayOf_3 1 rfl rfl)
theorem dX2_replayOf_76 : decode cX2_replayOf 76 = .ok (.aload_n 0, 1) := dk_42 (dk_at dksX2_replayOf_3 4 rfl rfl)
theorem dX2_replayOf_77 : decode cX2_replayOf 77 = .ok (.getfield 37, 3) := dk_180 0 37 (dk_at dksX2_replayOf_3 5 rfl rfl)
theorem dX2_replayOf_80 : decode cX2_replayOf 80 = .ok (.iconst 1, 1) := dk_4 (dk_at dksX2_replayOf_3 8 rfl rfl)
theorem dX2_replayOf_81 : decode cX2_replayOf 81 = .ok (.iaload, 1) := dk_46 (dk_at dksX2_replayOf_3 9 rfl rfl)
theorem dX2_replayOf_82 : decode cX2_replayOf 82 = .ok (.goto 8, 3) := dk_167 0 8 (dk_at dksX2_replayOf_3 10 rfl rfl)
theorem dX2_replayOf_85 : decode cX2_replayOf 85 = .ok (.aload_n 0, 1) := dk_42 (dk_at dksX2_replayOf_3 13 rfl rfl)
theorem dX2_replayOf_86 : decode cX2_replayOf 86 = .ok (.iconst 1, 1) := dk_4 (dk_at dksX2_replayOf_3 14 rfl rfl)
theorem dX2_replayOf_87 : decode cX2_replayOf 87 = .ok (.invokevirtual 258, 3) := dk_182 1 2 (dk_at dksX2_replayOf_3 15 rfl rfl)
theorem dX2_replayOf_90 : decode cX2_replayOf 90 = .ok (.ireturn, 1) := dk_172 (dk_at dksX2_replayOf_3 18 rfl rfl)
abbrev cX2_ahead : ByteArray := prog_11_method_59_code
def yX2_ahead : MethodName := ⟨RX2, "ahead", "()I"⟩
def dkwX2_ahead_0 : List UInt8 := [42, 182, 0, 236, 153, 0, 8, 16, 153, 167, 0, 7, 42, 182, 1, 24, 172]
abbrev dktX2_ahead_0 : List UInt8 := dkwX2_ahead_0 ++ []
theorem dksX2_ahead_0 : cX2_ahead.data.toList.drop 0 = dktX2_ahead_0 := by decide +kernel
theorem dX2_ahead_0 : decode cX2_ahead 0 = .ok (.aload_n 0, 1) := dk_42 (dk_at dksX2_ahead_0 0 rfl rfl)
theorem dX2_ahead_1 : decode cX2_ahead 1 = .ok (.invokevirtual 236, 3) := dk_182 0 236 (dk_at dksX2_ahead_0 1 rfl rfl)
theorem dX2_ahead_4 : decode cX2_ahead 4 = .ok (.ifCond .eq 8, 3) := dk_153 0 8 (dk_at dksX2_ahead_0 4 rfl rfl)
theorem dX2_ahead_7 : decode cX2_ahead 7 = .ok (.bipush (-103), 2) := dk_16 153 (dk_at dksX2_ahead_0 7 rfl rfl)
theorem dX2_ahead_9 : decode cX2_ahead 9 = .ok (.goto 7, 3) := dk_167 0 7 (dk_at dksX2_ahead_0 9 rfl rfl)
theorem dX2_ahead_12 : decode cX2_ahead 12 = .ok (.aload_n 0, 1) := dk_42 (dk_at dksX2_ahead_0 12 rfl rfl)
theorem dX2_ahead_13 : decode cX2_ahead 13 = .ok (.invokevirtual 280, 3) := dk_182 1 24 (dk_at dksX2_ahead_0 13 rfl rfl)
theorem dX2_ahead_16 : decode cX2_ahead 16 = .ok (.ireturn, 1) := dk_172 (dk_at dksX2_ahead_0 16 rfl rfl)
abbrev cX2_aheadOf : ByteArray := prog_11_method_58_code
def yX2_aheadOf : MethodName := ⟨RX2, "aheadOf", "()I"⟩
def dkwX2_aheadOf_2 : List UInt8 := [158, 255, 216, 27, 172, 2, 172]
abbrev dktX2_aheadOf_2 : List UInt8 := dkwX2_aheadOf_2 ++ []
def dkwX2_aheadOf_1 : List UInt8 := [96, 46, 154, 0, 9, 132, 2, 1, 167, 255, 241, 42, 4, 28, 182, 0, 233, 132, 1, 1, 42, 180, 0, 171]
abbrev dktX2_aheadOf_1 : List UInt8 := dkwX2_aheadOf_1 ++ dktX2_aheadOf_2
def dkwX2_aheadOf_0 : List UInt8 := [42, 182, 1, 11, 3, 60, 3, 61, 42, 180, 0, 28, 4, 46, 158, 0, 39, 42, 180, 0, 22, 16, 100, 28]
abbrev dktX2_aheadOf_0 : List UInt8 := dkwX2_aheadOf_0 ++ dktX2_aheadOf_1
theorem dksX2_aheadOf_0 : cX2_aheadOf.data.toList.drop 0 = dktX2_aheadOf_0 := by decide +kernel
theorem dksX2_aheadOf_1 : cX2_aheadOf.data.toList.drop 24 = dktX2_aheadOf_1 := dk_seg dksX2_aheadOf_0 24 rfl rfl
theorem dksX2_aheadOf_2 : cX2_aheadOf.data.toList.drop 48 = dktX2_aheadOf_2 := dk_seg dksX2_aheadOf_1 24 rfl rfl
theorem dX2_aheadOf_0 : decode cX2_aheadOf 0 = .ok (.aload_n 0, 1) := dk_42 (dk_at dksX2_aheadOf_0 0 rfl rfl)
theorem dX2_aheadOf_1 : decode cX2_aheadOf 1 = .ok (.invokevirtual 267, 3) := dk_182 1 11 (dk_at dksX2_aheadOf_0 1 rfl rfl)
theorem dX2_aheadOf_4 : decode cX2_aheadOf 4 = .ok (.iconst 0, 1) := dk_3 (dk_at dksX2_aheadOf_0 4 rfl rfl)
theorem dX2_aheadOf_5 : decode cX2_aheadOf 5 = .ok (.istore_n 1, 1) := dk_60 (dk_at dksX2_aheadOf_0 5 rfl rfl)
theorem dX2_aheadOf_6 : decode cX2_aheadOf 6 = .ok (.iconst 0, 1) := dk_3 (dk_at dksX2_aheadOf_0 6 rfl rfl)
theorem dX2_aheadOf_7 : decode cX2_aheadOf 7 = .ok (.istore_n 2, 1) := dk_61 (dk_at dksX2_aheadOf_0 7 rfl rfl)
theorem dX2_aheadOf_8 : decode cX2_aheadOf 8 = .ok (.aload_n 0, 1) := dk_42 (dk_at dksX2_aheadOf_0 8 rfl rfl)
theorem dX2_aheadOf_9 : decode cX2_aheadOf 9 = .ok (.getfield 28, 3) := dk_180 0 28 (dk_at dksX2_aheadOf_0 9 rfl rfl)
theorem dX2_aheadOf_12 : decode cX2_aheadOf 12 = .ok (.iconst 1, 1) := dk_4 (dk_at dksX2_aheadOf_0 12 rfl rfl)
theorem dX2_aheadOf_13 : decode cX2_aheadOf 13 = .ok (.iaload, 1) := dk_46 (dk_at dksX2_aheadOf_0 13 rfl rfl)
theorem dX2_aheadOf_14 : decode cX2_aheadOf 14 = .ok (.ifCond .le 39, 3) := dk_158 0 39 (dk_at dksX2_aheadOf_0 14 rfl rfl)
theorem dX2_aheadOf_17 : decode cX2_aheadOf 17 = .ok (.aload_n 0, 1) := dk_42 (dk_at dksX2_aheadOf_0 17 rfl rfl)
theorem dX2_aheadOf_18 : decode cX2_aheadOf 18 = .ok (.getfield 22, 3) := dk_180 0 22 (dk_at dksX2_aheadOf_0 18 rfl rfl)
theorem dX2_aheadOf_21 : decode cX2_aheadOf 21 = .ok (.bipush 100, 2) := dk_16 100 (dk_at dksX2_aheadOf_0 21 rfl rfl)
theorem dX2_aheadOf_23 : decode cX2_aheadOf 23 = .ok (.iload_n 2, 1) := dk_28 (dk_at dksX2_aheadOf_0 23 rfl rfl)
theorem dX2_aheadOf_24 : decode cX2_aheadOf 24 = .ok (.iadd, 1) := dk_96 (dk_at dksX2_aheadOf_1 0 rfl rfl)
theorem dX2_aheadOf_25 : decode cX2_aheadOf 25 = .ok (.iaload, 1) := dk_46 (dk_at dksX2_aheadOf_1 1 rfl rfl)
theorem dX2_aheadOf_26 : decode cX2_aheadOf 26 = .ok (.ifCond .ne 9, 3) := dk_154 0 9 (dk_at dksX2_aheadOf_1 2 rfl rfl)
theorem dX2_aheadOf_29 : decode cX2_aheadOf 29 = .ok (.iinc 2 1, 3) := dk_132 2 1 (dk_at dksX2_aheadOf_1 5 rfl rfl)
theorem dX2_aheadOf_32 : decode cX2_aheadOf 32 = .ok (.goto (-15), 3) := dk_167 255 241 (dk_at dksX2_aheadOf_1 8 rfl rfl)
theorem dX2_aheadOf_35 : decode cX2_aheadOf 35 = .ok (.aload_n 0, 1) := dk_42 (dk_at dksX2_aheadOf_1 11 rfl rfl)
theorem dX2_aheadOf_36 : decode cX2_aheadOf 36 = .ok (.iconst 1, 1) := dk_4 (dk_at dksX2_aheadOf_1 12 rfl rfl)
theorem dX2_aheadOf_37 : decode cX2_aheadOf 37 = .ok (.iload_n 2, 1) := dk_28 (dk_at dksX2_aheadOf_1 13 rfl rfl)
theorem dX2_aheadOf_38 : decode cX2_aheadOf 38 = .ok (.invokevirtual 233, 3) := dk_182 0 233 (dk_at dksX2_aheadOf_1 14 rfl rfl)
theorem dX2_aheadOf_41 : decode cX2_aheadOf 41 = .ok (.iinc 1 1, 3) := dk_132 1 1 (dk_at dksX2_aheadOf_1 17 rfl rfl)
theorem dX2_aheadOf_44 : decode cX2_aheadOf 44 = .ok (.aload_n 0, 1) := dk_42 (dk_at dksX2_aheadOf_1 20 rfl rfl)
theorem dX2_aheadOf_45 : decode cX2_aheadOf 45 = .ok (.getfield 171, 3) := dk_180 0 171 (dk_at dksX2_aheadOf_1 21 rfl rfl)
theorem dX2_aheadOf_48 : decode cX2_aheadOf 48 = .ok (.ifCond .le (-40), 3) := dk_158 255 216 (dk_at dksX2_aheadOf_2 0 rfl rfl)
theorem dX2_aheadOf_51 : decode cX2_aheadOf 51 = .ok (.iload_n 1, 1) := dk_27 (dk_at dksX2_aheadOf_2 3 rfl rfl)
theorem dX2_aheadOf_52 : decode cX2_aheadOf 52 = .ok (.ireturn, 1) := dk_172 (dk_at dksX2_aheadOf_2 4 rfl rfl)
theorem dX2_aheadOf_53 : decode cX2_aheadOf 53 = .ok (.iconst (-1), 1) := dk_2 (dk_at dksX2_aheadOf_2 5 rfl rfl)
theorem dX2_aheadOf_54 : decode cX2_aheadOf 54 = .ok (.ireturn, 1) := dk_172 (dk_at dksX2_aheadOf_2 6 rfl rfl)
abbrev cX2_see : ByteArray := prog_11_method_60_code
def yX2_see : MethodName := ⟨RX2, "see", "(IIZ)I"⟩
def dkwX2_see_4 : List UInt8 := [79, 42, 89, 180, 0, 218, 4, 96, 181, 0, 218, 42, 180, 0, 218, 172]
abbrev dktX2_see_4 : List UInt8 := dkwX2_see_4 ++ []
def dkwX2_see_3 : List UInt8 := [96, 28, 79, 42, 180, 0, 61, 6, 42, 180, 0, 218, 104, 5, 96, 29, 153, 0, 7, 4, 167, 0, 4, 3]
abbrev dktX2_see_3 : List UInt8 := dkwX2_see_3 ++ dktX2_see_4
def dkwX2_see_2 : List UInt8 := [172, 42, 180, 0, 61, 6, 42, 180, 0, 218, 104, 27, 79, 42, 180, 0, 61, 6, 42, 180, 0, 218, 104, 4]
abbrev dktX2_see_2 : List UInt8 := dkwX2_see_2 ++ dktX2_see_3
def dkwX2_see_1 : List UInt8 := [16, 154, 172, 42, 182, 0, 236, 153, 0, 6, 16, 153, 172, 42, 180, 0, 218, 16, 6, 160, 0, 6, 16, 152]
abbrev dktX2_see_1 : List UInt8 := dkwX2_see_1 ++ dktX2_see_2
def dkwX2_see_0 : List UInt8 := [27, 133, 9, 20, 0, 240, 184, 0, 94, 153, 0, 15, 28, 133, 9, 20, 1, 27, 184, 0, 94, 154, 0, 6]
abbrev dktX2_see_0 : List UInt8 := dkwX2_see_0 ++ dktX2_see_1
theorem dksX2_see_0 : cX2_see.data.toList.drop 0 = dktX2_see_0 := by decide +kernel
theorem dksX2_see_1 : cX2_see.data.toList.drop 24 = dktX2_see_1 := dk_seg dksX2_see_0 24 rfl rfl
theorem dksX2_see_2 : cX2_see.data.toList.drop 48 = dktX2_see_2 := dk_seg dksX2_see_1 24 rfl rfl
theorem dksX2_see_3 : cX2_see.data.toList.drop 72 = dktX2_see_3 := dk_seg dksX2_see_2 24 rfl rfl
theorem dksX2_see_4 : cX2_see.data.toList.drop 96 = dktX2_see_4 := dk_seg dksX2_see_3 24 rfl rfl
theorem dX2_see_0 : decode cX2_see 0 = .ok (.iload_n 1, 1) := dk_27 (dk_at dksX2_see_0 0 rfl rfl)
theorem dX2_see_1 : decode cX2_see 1 = .ok (.i2l, 1) := dk_133 (dk_at dksX2_see_0 1 rfl rfl)
theorem dX2_see_2 : decode cX2_see 2 = .ok (.lconst 0, 1) := dk_9 (dk_at dksX2_see_0 2 rfl rfl)
theorem dX2_see_3 : decode cX2_see 3 = .ok (.ldc2_w 240, 3) := dk_20 0 240 (dk_at dksX2_see_0 3 rfl rfl)
theorem dX2_see_6 : decode cX2_see 6 = .ok (.invokestatic 94, 3) := dk_184 0 94 (dk_at dksX2_see_0 6 rfl rfl)
theorem dX2_see_9 : decode cX2_see 9 = .ok (.ifCond .eq 15, 3) := dk_153 0 15 (dk_at dksX2_see_0 9 rfl rfl)
theorem dX2_see_12 : decode cX2_see 12 = .ok (.iload_n 2, 1) := dk_28 (dk_at dksX2_see_0 12 rfl rfl)
theorem dX2_see_13 : decode cX2_see 13 = .ok (.i2l, 1) := dk_133 (dk_at dksX2_see_0 13 rfl rfl)
theorem dX2_see_14 : decode cX2_see 14 = .ok (.lconst 0, 1) := dk_9 (dk_at dksX2_see_0 14 rfl rfl)
theorem dX2_see_15 : decode cX2_see 15 = .ok (.ldc2_w 283, 3) := dk_20 1 27 (dk_at dksX2_see_0 15 rfl rfl)
theorem dX2_see_18 : decode cX2_see 18 = .ok (.invokestatic 94, 3) := dk_184 0 94 (dk_at dksX2_see_0 18 rfl rfl)
theorem dX2_see_21 : decode cX2_see 21 = .ok (.ifCond .ne 6, 3) := dk_154 0 6 (dk_at dksX2_see_0 21 rfl rfl)
theorem dX2_see_24 : decode cX2_see 24 = .ok (.bipush (-102), 2) := dk_16 154 (dk_at dksX2_see_1 0 rfl rfl)
theorem dX2_see_26 : decode cX2_see 26 = .ok (.ireturn, 1) := dk_172 (dk_at dksX2_see_1 2 rfl rfl)
theorem dX2_see_27 : decode cX2_see 27 = .ok (.aload_n 0, 1) := dk_42 (dk_at dksX2_see_1 3 rfl rfl)
theorem dX2_see_28 : decode cX2_see 28 = .ok (.invokevirtual 236, 3) := dk_182 0 236 (dk_at dksX2_see_1 4 rfl rfl)
theorem dX2_see_31 : decode cX2_see 31 = .ok (.ifCond .eq 6, 3) := dk_153 0 6 (dk_at dksX2_see_1 7 rfl rfl)
theorem dX2_see_34 : decode cX2_see 34 = .ok (.bipush (-103), 2) := dk_16 153 (dk_at dksX2_see_1 10 rfl rfl)
theorem dX2_see_36 : decode cX2_see 36 = .ok (.ireturn, 1) := dk_172 (dk_at dksX2_see_1 12 rfl rfl)
theorem dX2_see_37 : decode cX2_see 37 = .ok (.aload_n 0, 1) := dk_42 (dk_at dksX2_see_1 13 rfl rfl)
theorem dX2_see_38 : decode cX2_see 38 = .ok (.getfield 218, 3) := dk_180 0 218 (dk_at dksX2_see_1 14 rfl rfl)
theorem dX2_see_41 : decode cX2_see 41 = .ok (.bipush 6, 2) := dk_16 6 (dk_at dksX2_see_1 17 rfl rfl)
theorem dX2_see_43 : decode cX2_see 43 = .ok (.if_icmp .ne 6, 3) := dk_160 0 6 (dk_at dksX2_see_1 19 rfl rfl)
theorem dX2_see_46 : decode cX2_see 46 = .ok (.bipush (-104), 2) := dk_16 152 (dk_at dksX2_see_1 22 rfl rfl)
theorem dX2_see_48 : decode cX2_see 48 = .ok (.ireturn, 1) := dk_172 (dk_at dksX2_see_2 0 rfl rfl)
theorem dX2_see_49 : decode cX2_see 49 = .ok (.aload_n 0, 1) := dk_42 (dk_at dksX2_see_2 1 rfl rfl)
theorem dX2_see_50 : decode cX2_see 50 = .ok (.getfield 61, 3) := dk_180 0 61 (dk_at dksX2_see_2 2 rfl rfl)
theorem dX2_see_53 : decode cX2_see 53 = .ok (.iconst 3, 1) := dk_6 (dk_at dksX2_see_2 5 rfl rfl)
theorem dX2_see_54 : decode cX2_see 54 = .ok (.aload_n 0, 1) := dk_42 (dk_at dksX2_see_2 6 rfl rfl)
theorem dX2_see_55 : decode cX2_see 55 = .ok (.getfield 218, 3) := dk_180 0 218 (dk_at dksX2_see_2 7 rfl rfl)
theorem dX2_see_58 : decode cX2_see 58 = .ok (.imul, 1) := dk_104 (dk_at dksX2_see_2 10 rfl rfl)
theorem dX2_see_59 : decode cX2_see 59 = .ok (.iload_n 1, 1) := dk_27 (dk_at dksX2_see_2 11 rfl rfl)
theorem dX2_see_60 : decode cX2_see 60 = .ok (.iastore, 1) := dk_79 (dk_at dksX2_see_2 12 rfl rfl)
theorem dX2_see_61 : decode cX2_see 61 = .ok (.aload_n 0, 1) := dk_42 (dk_at dksX2_see_2 13 rfl rfl)
theorem dX2_see_62 : decode cX2_see 62 = .ok (.getfield 61, 3) := dk_180 0 61 (dk_at dksX2_see_2 14 rfl rfl)
theorem dX2_see_65 : decode cX2_see 65 = .ok (.iconst 3, 1) := dk_6 (dk_at dksX2_see_2 17 rfl rfl)
theorem dX2_see_66 : decode cX2_see 66 = .ok (.aload_n 0, 1) := dk_42 (dk_at dksX2_see_2 18 rfl rfl)
theorem dX2_see_67 : decode cX2_see 67 = .ok (.getfield 218, 3) := dk_180 0 218 (dk_at dksX2_see_2 19 rfl rfl)
theorem dX2_see_70 : decode cX2_see 70 = .ok (.imul, 1) := dk_104 (dk_at dksX2_see_2 22 rfl rfl)
theorem dX2_see_71 : decode cX2_see 71 = .ok (.iconst 1, 1) := dk_4 (dk_at dksX2_see_2 23 rfl rfl)
theorem dX2_see_72 : decode cX2_see 72 = .ok (.iadd, 1) := dk_96 (dk_at dksX2_see_3 0 rfl rfl)
theorem dX2_see_73 : decode cX2_see 73 = .ok (.iload_n 2, 1) := dk_28 (dk_at dksX2_see_3 1 rfl rfl)
theorem dX2_see_74 : decode cX2_see 74 = .ok (.iastore, 1) := dk_79 (dk_at dksX2_see_3 2 rfl rfl)
theorem dX2_see_75 : decode cX2_see 75 = .ok (.aload_n 0, 1) := dk_42 (dk_at dksX2_see_3 3 rfl rfl)
theorem dX2_see_76 : decode cX2_see 76 = .ok (.getfield 61, 3) := dk_180 0 61 (dk_at dksX2_see_3 4 rfl rfl)
theorem dX2_see_79 : decode cX2_see 79 = .ok (.iconst 3, 1) := dk_6 (dk_at dksX2_see_3 7 rfl rfl)
theorem dX2_see_80 : decode cX2_see 80 = .ok (.aload_n 0, 1) := dk_42 (dk_at dksX2_see_3 8 rfl rfl)
theorem dX2_see_81 : decode cX2_see 81 = .ok (.getfield 218, 3) := dk_180 0 218 (dk_at dksX2_see_3 9 rfl rfl)
theorem dX2_see_84 : decode cX2_see 84 = .ok (.imul, 1) := dk_104 (dk_at dksX2_see_3 12 rfl rfl)
theorem dX2_see_85 : decode cX2_see 85 = .ok (.iconst 2, 1) := dk_5 (dk_at dksX2_see_3 13 rfl rfl)
theorem dX2_see_86 : decode cX2_see 86 = .ok (.iadd, 1) := dk_96 (dk_at dksX2_see_3 14 rfl rfl)
theorem dX2_see_87 : decode cX2_see 87 = .ok (.iload_n 3, 1) := dk_29 (dk_at dksX2_see_3 15 rfl rfl)
theorem dX2_see_88 : decode cX2_see 88 = .ok (.ifCond .eq 7, 3) := dk_153 0 7 (dk_at dksX2_see_3 16 rfl rfl)
theorem dX2_see_91 : decode cX2_see 91 = .ok (.iconst 1, 1) := dk_4 (dk_at dksX2_see_3 19 rfl rfl)
theorem dX2_see_92 : decode cX2_see 92 = .ok (.goto 4, 3) := dk_167 0 4 (dk_at dksX2_see_3 20 rfl rfl)
theorem dX2_see_95 : decode cX2_see 95 = .ok (.iconst 0, 1) := dk_3 (dk_at dksX2_see_3 23 rfl rfl)
theorem dX2_see_96 : decode cX2_see 96 = .ok (.iastore, 1) := dk_79 (dk_at dksX2_see_4 0 rfl rfl)
theorem dX2_see_97 : decode cX2_see 97 = .ok (.aload_n 0, 1) := dk_42 (dk_at dksX2_see_4 1 rfl rfl)
theorem dX2_see_98 : decode cX2_see 98 = .ok (.dup, 1) := dk_89 (dk_at dksX2_see_4 2 rfl rfl)
theorem dX2_see_99 : decode cX2_see 99 = .ok (.getfield 218, 3) := dk_180 0 218 (dk_at dksX2_see_4 3 rfl rfl)
theorem dX2_see_102 : decode cX2_see 102 = .ok (.iconst 1, 1) := dk_4 (dk_at dksX2_see_4 6 rfl rfl)
theorem dX2_see_103 : decode cX2_see 103 = .ok (.iadd, 1) := dk_96 (dk_at dksX2_see_4 7 rfl rfl)
theorem dX2_see_104 : decode cX2_see 104 = .ok (.putfield 218, 3) := dk_181 0 218 (dk_at dksX2_see_4 8 rfl rfl)
theorem dX2_see_107 : decode cX2_see 107 = .ok (.aload_n 0, 1) := dk_42 (dk_at dksX2_see_4 11 rfl rfl)
theorem dX2_see_108 : decode cX2_see 108 = .ok (.getfield 218, 3) := dk_180 0 218 (dk_at dksX2_see_4 12 rfl rfl)
theorem dX2_see_111 : decode cX2_see 111 = .ok (.ireturn, 1) := dk_172 (dk_at dksX2_see_4 15 rfl rfl)
abbrev cX2_forget : ByteArray := prog_11_method_61_code
def yX2_forget : MethodName := ⟨RX2, "forget", "()I"⟩
def dkwX2_forget_0 : List UInt8 := [42, 180, 0, 218, 60, 42, 3, 181, 0, 218, 27, 172]
abbrev dktX2_forget_0 : List UInt8 := dkwX2_forget_0 ++ []
theorem dksX2_forget_0 : cX2_forget.data.toList.drop 0 = dktX2_forget_0 := by decide +kernel
theorem dX2_forget_0 : decode cX2_forget 0 = .ok (.aload_n 0, 1) := dk_42 (dk_at dksX2_forget_0 0 rfl rfl)
theorem dX2_forget_1 : decode cX2_forget 1 = .ok (.getfield 218, 3) := dk_180 0 218 (dk_at dksX2_forget_0 1 rfl rfl)
theorem dX2_forget_4 : decode cX2_forget 4 = .ok (.istore_n 1, 1) := dk_60 (dk_at dksX2_forget_0 4 rfl rfl)
theorem dX2_forget_5 : decode cX2_forget 5 = .ok (.aload_n 0, 1) := dk_42 (dk_at dksX2_forget_0 5 rfl rfl)
theorem dX2_forget_6 : decode cX2_forget 6 = .ok (.iconst 0, 1) := dk_3 (dk_at dksX2_forget_0 6 rfl rfl)
theorem dX2_forget_7 : decode cX2_forget 7 = .ok (.putfield 218, 3) := dk_181 0 218 (dk_at dksX2_forget_0 7 rfl rfl)
theorem dX2_forget_10 : decode cX2_forget 10 = .ok (.iload_n 1, 1) := dk_27 (dk_at dksX2_forget_0 10 rfl rfl)
theorem dX2_forget_11 : decode cX2_forget 11 = .ok (.ireturn, 1) := dk_172 (dk_at dksX2_forget_0 11 rfl rfl)
abbrev cX2_sorts : ByteArray := prog_11_method_66_code
def yX2_sorts : MethodName := ⟨RX2, "sorts", "(II)I"⟩
def dkwX2_sorts_1 : List UInt8 := [172, 28, 154, 0, 11, 42, 27, 182, 1, 32, 167, 0, 8, 42, 27, 182, 1, 38, 172]
abbrev dktX2_sorts_1 : List UInt8 := dkwX2_sorts_1 ++ []
def dkwX2_sorts_0 : List UInt8 := [27, 133, 9, 20, 0, 240, 184, 0, 94, 153, 0, 13, 28, 133, 9, 10, 184, 0, 94, 154, 0, 6, 16, 154]
abbrev dktX2_sorts_0 : List UInt8 := dkwX2_sorts_0 ++ dktX2_sorts_1
theorem dksX2_sorts_0 : cX2_sorts.data.toList.drop 0 = dktX2_sorts_0 := by decide +kernel
theorem dksX2_sorts_1 : cX2_sorts.data.toList.drop 24 = dktX2_sorts_1 := dk_seg dksX2_sorts_0 24 rfl rfl
theorem dX2_sorts_0 : decode cX2_sorts 0 = .ok (.iload_n 1, 1) := dk_27 (dk_at dksX2_sorts_0 0 rfl rfl)
theorem dX2_sorts_1 : decode cX2_sorts 1 = .ok (.i2l, 1) := dk_133 (dk_at dksX2_sorts_0 1 rfl rfl)
theorem dX2_sorts_2 : decode cX2_sorts 2 = .ok (.lconst 0, 1) := dk_9 (dk_at dksX2_sorts_0 2 rfl rfl)
theorem dX2_sorts_3 : decode cX2_sorts 3 = .ok (.ldc2_w 240, 3) := dk_20 0 240 (dk_at dksX2_sorts_0 3 rfl rfl)
theorem dX2_sorts_6 : decode cX2_sorts 6 = .ok (.invokestatic 94, 3) := dk_184 0 94 (dk_at dksX2_sorts_0 6 rfl rfl)
theorem dX2_sorts_9 : decode cX2_sorts 9 = .ok (.ifCond .eq 13, 3) := dk_153 0 13 (dk_at dksX2_sorts_0 9 rfl rfl)
theorem dX2_sorts_12 : decode cX2_sorts 12 = .ok (.iload_n 2, 1) := dk_28 (dk_at dksX2_sorts_0 12 rfl rfl)
theorem dX2_sorts_13 : decode cX2_sorts 13 = .ok (.i2l, 1) := dk_133 (dk_at dksX2_sorts_0 13 rfl rfl)
theorem dX2_sorts_14 : decode cX2_sorts 14 = .ok (.lconst 0, 1) := dk_9 (dk_at dksX2_sorts_0 14 rfl rfl)
theorem dX2_sorts_15 : decode cX2_sorts 15 = .ok (.lconst 1, 1) := dk_10 (dk_at dksX2_sorts_0 15 rfl rfl)
theorem dX2_sorts_16 : decode cX2_sorts 16 = .ok (.invokestatic 94, 3) := dk_184 0 94 (dk_at dksX2_sorts_0 16 rfl rfl)
theorem dX2_sorts_19 : decode cX2_sorts 19 = .ok (.ifCond .ne 6, 3) := dk_154 0 6 (dk_at dksX2_sorts_0 19 rfl rfl)
theorem dX2_sorts_22 : decode cX2_sorts 22 = .ok (.bipush (-102), 2) := dk_16 154 (dk_at dksX2_sorts_0 22 rfl rfl)
theorem dX2_sorts_24 : decode cX2_sorts 24 = .ok (.ireturn, 1) := dk_172 (dk_at dksX2_sorts_1 0 rfl rfl)
theorem dX2_sorts_25 : decode cX2_sorts 25 = .ok (.iload_n 2, 1) := dk_28 (dk_at dksX2_sorts_1 1 rfl rfl)
theorem dX2_sorts_26 : decode cX2_sorts 26 = .ok (.ifCond .ne 11, 3) := dk_154 0 11 (dk_at dksX2_sorts_1 2 rfl rfl)
theorem dX2_sorts_29 : decode cX2_sorts 29 = .ok (.aload_n 0, 1) := dk_42 (dk_at dksX2_sorts_1 5 rfl rfl)
theorem dX2_sorts_30 : decode cX2_sorts 30 = .ok (.iload_n 1, 1) := dk_27 (dk_at dksX2_sorts_1 6 rfl rfl)
theorem dX2_sorts_31 : decode cX2_sorts 31 = .ok (.invokevirtual 288, 3) := dk_182 1 32 (dk_at dksX2_sorts_1 7 rfl rfl)
theorem dX2_sorts_34 : decode cX2_sorts 34 = .ok (.goto 8, 3) := dk_167 0 8 (dk_at dksX2_sorts_1 10 rfl rfl)
theorem dX2_sorts_37 : decode cX2_sorts 37 = .ok (.aload_n 0, 1) := dk_42 (dk_at dksX2_sorts_1 13 rfl rfl)
theorem dX2_sorts_38 : decode cX2_sorts 38 = .ok (.iload_n 1, 1) := dk_27 (dk_at dksX2_sorts_1 14 rfl rfl)
theorem dX2_sorts_39 : decode cX2_sorts 39 = .ok (.invokevirtual 294, 3) := dk_182 1 38 (dk_at dksX2_sorts_1 15 rfl rfl)
theorem dX2_sorts_42 : decode cX2_sorts 42 = .ok (.ireturn, 1) := dk_172 (dk_at dksX2_sorts_1 18 rfl rfl)
abbrev cX2_sortsOf : ByteArray := prog_11_method_63_code
def yX2_sortsOf : MethodName := ⟨RX2, "sortsOf", "(I)I"⟩
def dkwX2_sortsOf_3 : List UInt8 := [172]
abbrev dktX2_sortsOf_3 : List UInt8 := dkwX2_sortsOf_3 ++ []
def dkwX2_sortsOf_2 : List UInt8 := [46, 4, 160, 0, 8, 21, 4, 167, 0, 8, 16, 31, 21, 4, 100, 126, 61, 132, 3, 3, 167, 255, 195, 28]
abbrev dktX2_sortsOf_2 : List UInt8 := dkwX2_sortsOf_2 ++ dktX2_sortsOf_3
def dkwX2_sortsOf_1 : List UInt8 := [160, 0, 41, 42, 180, 0, 61, 29, 4, 96, 46, 184, 1, 29, 54, 4, 28, 42, 180, 0, 61, 29, 5, 96]
abbrev dktX2_sortsOf_1 : List UInt8 := dkwX2_sortsOf_1 ++ dktX2_sortsOf_2
def dkwX2_sortsOf_0 : List UInt8 := [16, 31, 61, 3, 62, 29, 6, 42, 180, 0, 218, 104, 162, 0, 57, 42, 180, 0, 61, 29, 46, 27]
abbrev dktX2_sortsOf_0 : List UInt8 := dkwX2_sortsOf_0 ++ dktX2_sortsOf_1
theorem dksX2_sortsOf_0 : cX2_sortsOf.data.toList.drop 0 = dktX2_sortsOf_0 := by decide +kernel
theorem dksX2_sortsOf_1 : cX2_sortsOf.data.toList.drop 22 = dktX2_sortsOf_1 := dk_seg dksX2_sortsOf_0 22 rfl rfl
theorem dksX2_sortsOf_2 : cX2_sortsOf.data.toList.drop 46 = dktX2_sortsOf_2 := dk_seg dksX2_sortsOf_1 24 rfl rfl
theorem dksX2_sortsOf_3 : cX2_sortsOf.data.toList.drop 70 = dktX2_sortsOf_3 := dk_seg dksX2_sortsOf_2 24 rfl rfl
theorem dX2_sortsOf_0 : decode cX2_sortsOf 0 = .ok (.bipush 31, 2) := dk_16 31 (dk_at dksX2_sortsOf_0 0 rfl rfl)
theorem dX2_sortsOf_2 : decode cX2_sortsOf 2 = .ok (.istore_n 2, 1) := dk_61 (dk_at dksX2_sortsOf_0 2 rfl rfl)
theorem dX2_sortsOf_3 : decode cX2_sortsOf 3 = .ok (.iconst 0, 1) := dk_3 (dk_at dksX2_sortsOf_0 3 rfl rfl)
theorem dX2_sortsOf_4 : decode cX2_sortsOf 4 = .ok (.istore_n 3, 1) := dk_62 (dk_at dksX2_sortsOf_0 4 rfl rfl)
theorem dX2_sortsOf_5 : decode cX2_sortsOf 5 = .ok (.iload_n 3, 1) := dk_29 (dk_at dksX2_sortsOf_0 5 rfl rfl)
theorem dX2_sortsOf_6 : decode cX2_sortsOf 6 = .ok (.iconst 3, 1) := dk_6 (dk_at dksX2_sortsOf_0 6 rfl rfl)
theorem dX2_sortsOf_7 : decode cX2_sortsOf 7 = .ok (.aload_n 0, 1) := dk_42 (dk_at dksX2_sortsOf_0 7 rfl rfl)
theorem dX2_sortsOf_8 : decode cX2_sortsOf 8 = .ok (.getfield 218, 3) := dk_180 0 218 (dk_at dksX2_sortsOf_0 8 rfl rfl)
theorem dX2_sortsOf_11 : decode cX2_sortsOf 11 = .ok (.imul, 1) := dk_104 (dk_at dksX2_sortsOf_0 11 rfl rfl)
theorem dX2_sortsOf_12 : decode cX2_sortsOf 12 = .ok (.if_icmp .ge 57, 3) := dk_162 0 57 (dk_at dksX2_sortsOf_0 12 rfl rfl)
theorem dX2_sortsOf_15 : decode cX2_sortsOf 15 = .ok (.aload_n 0, 1) := dk_42 (dk_at dksX2_sortsOf_0 15 rfl rfl)
theorem dX2_sortsOf_16 : decode cX2_sortsOf 16 = .ok (.getfield 61, 3) := dk_180 0 61 (dk_at dksX2_sortsOf_0 16 rfl rfl)
theorem dX2_sortsOf_19 : decode cX2_sortsOf 19 = .ok (.iload_n 3, 1) := dk_29 (dk_at dksX2_sortsOf_0 19 rfl rfl)
theorem dX2_sortsOf_20 : decode cX2_sortsOf 20 = .ok (.iaload, 1) := dk_46 (dk_at dksX2_sortsOf_0 20 rfl rfl)
theorem dX2_sortsOf_21 : decode cX2_sortsOf 21 = .ok (.iload_n 1, 1) := dk_27 (dk_at dksX2_sortsOf_0 21 rfl rfl)
theorem dX2_sortsOf_22 : decode cX2_sortsOf 22 = .ok (.if_icmp .ne 41, 3) := dk_160 0 41 (dk_at dksX2_sortsOf_1 0 rfl rfl)
theorem dX2_sortsOf_25 : decode cX2_sortsOf 25 = .ok (.aload_n 0, 1) := dk_42 (dk_at dksX2_sortsOf_1 3 rfl rfl)
theorem dX2_sortsOf_26 : decode cX2_sortsOf 26 = .ok (.getfield 61, 3) := dk_180 0 61 (dk_at dksX2_sortsOf_1 4 rfl rfl)
theorem dX2_sortsOf_29 : decode cX2_sortsOf 29 = .ok (.iload_n 3, 1) := dk_29 (dk_at dksX2_sortsOf_1 7 rfl rfl)
theorem dX2_sortsOf_30 : decode cX2_sortsOf 30 = .ok (.iconst 1, 1) := dk_4 (dk_at dksX2_sortsOf_1 8 rfl rfl)
theorem dX2_sortsOf_31 : decode cX2_sortsOf 31 = .ok (.iadd, 1) := dk_96 (dk_at dksX2_sortsOf_1 9 rfl rfl)
theorem dX2_sortsOf_32 : decode cX2_sortsOf 32 = .ok (.iaload, 1) := dk_46 (dk_at dksX2_sortsOf_1 10 rfl rfl)
theorem dX2_sortsOf_33 : decode cX2_sortsOf 33 = .ok (.invokestatic 285, 3) := dk_184 1 29 (dk_at dksX2_sortsOf_1 11 rfl rfl)
theorem dX2_sortsOf_36 : decode cX2_sortsOf 36 = .ok (.istore 4, 2) := dk_54 4 (dk_at dksX2_sortsOf_1 14 rfl rfl)
theorem dX2_sortsOf_38 : decode cX2_sortsOf 38 = .ok (.iload_n 2, 1) := dk_28 (dk_at dksX2_sortsOf_1 16 rfl rfl)
theorem dX2_sortsOf_39 : decode cX2_sortsOf 39 = .ok (.aload_n 0, 1) := dk_42 (dk_at dksX2_sortsOf_1 17 rfl rfl)
theorem dX2_sortsOf_40 : decode cX2_sortsOf 40 = .ok (.getfield 61, 3) := dk_180 0 61 (dk_at dksX2_sortsOf_1 18 rfl rfl)
theorem dX2_sortsOf_43 : decode cX2_sortsOf 43 = .ok (.iload_n 3, 1) := dk_29 (dk_at dksX2_sortsOf_1 21 rfl rfl)
theorem dX2_sortsOf_44 : decode cX2_sortsOf 44 = .ok (.iconst 2, 1) := dk_5 (dk_at dksX2_sortsOf_1 22 rfl rfl)
theorem dX2_sortsOf_45 : decode cX2_sortsOf 45 = .ok (.iadd, 1) := dk_96 (dk_at dksX2_sortsOf_1 23 rfl rfl)
theorem dX2_sortsOf_46 : decode cX2_sortsOf 46 = .ok (.iaload, 1) := dk_46 (dk_at dksX2_sortsOf_2 0 rfl rfl)
theorem dX2_sortsOf_47 : decode cX2_sortsOf 47 = .ok (.iconst 1, 1) := dk_4 (dk_at dksX2_sortsOf_2 1 rfl rfl)
theorem dX2_sortsOf_48 : decode cX2_sortsOf 48 = .ok (.if_icmp .ne 8, 3) := dk_160 0 8 (dk_at dksX2_sortsOf_2 2 rfl rfl)
theorem dX2_sortsOf_51 : decode cX2_sortsOf 51 = .ok (.iload 4, 2) := dk_21 4 (dk_at dksX2_sortsOf_2 5 rfl rfl)
theorem dX2_sortsOf_53 : decode cX2_sortsOf 53 = .ok (.goto 8, 3) := dk_167 0 8 (dk_at dksX2_sortsOf_2 7 rfl rfl)
theorem dX2_sortsOf_56 : decode cX2_sortsOf 56 = .ok (.bipush 31, 2) := dk_16 31 (dk_at dksX2_sortsOf_2 10 rfl rfl)
theorem dX2_sortsOf_58 : decode cX2_sortsOf 58 = .ok (.iload 4, 2) := dk_21 4 (dk_at dksX2_sortsOf_2 12 rfl rfl)
theorem dX2_sortsOf_60 : decode cX2_sortsOf 60 = .ok (.isub, 1) := dk_100 (dk_at dksX2_sortsOf_2 14 rfl rfl)
theorem dX2_sortsOf_61 : decode cX2_sortsOf 61 = .ok (.iand, 1) := dk_126 (dk_at dksX2_sortsOf_2 15 rfl rfl)
theorem dX2_sortsOf_62 : decode cX2_sortsOf 62 = .ok (.istore_n 2, 1) := dk_61 (dk_at dksX2_sortsOf_2 16 rfl rfl)
theorem dX2_sortsOf_63 : decode cX2_sortsOf 63 = .ok (.iinc 3 3, 3) := dk_132 3 3 (dk_at dksX2_sortsOf_2 17 rfl rfl)
theorem dX2_sortsOf_66 : decode cX2_sortsOf 66 = .ok (.goto (-61), 3) := dk_167 255 195 (dk_at dksX2_sortsOf_2 20 rfl rfl)
theorem dX2_sortsOf_69 : decode cX2_sortsOf 69 = .ok (.iload_n 2, 1) := dk_28 (dk_at dksX2_sortsOf_2 23 rfl rfl)
theorem dX2_sortsOf_70 : decode cX2_sortsOf 70 = .ok (.ireturn, 1) := dk_172 (dk_at dksX2_sortsOf_3 0 rfl rfl)
abbrev cX2_sortsBy : ByteArray := prog_11_method_62_code
def yX2_sortsBy : MethodName := ⟨RX2, "sortsBy", "(I)I"⟩
def dkwX2_sortsBy_2 : List UInt8 := [16, 13, 172, 16, 15, 172, 7, 172, 16, 23, 172]
abbrev dktX2_sortsBy_2 : List UInt8 := dkwX2_sortsBy_2 ++ []
def dkwX2_sortsBy_1 : List UInt8 := [170, 0, 0, 0, 0, 0, 35, 0, 0, 0, 0, 0, 0, 0, 2, 0, 0, 0, 27, 0, 0, 0, 30, 0, 0, 0, 33]
abbrev dktX2_sortsBy_1 : List UInt8 := dkwX2_sortsBy_1 ++ dktX2_sortsBy_2
def dkwX2_sortsBy_0 : List UInt8 := [26]
abbrev dktX2_sortsBy_0 : List UInt8 := dkwX2_sortsBy_0 ++ dktX2_sortsBy_1
theorem dksX2_sortsBy_0 : cX2_sortsBy.data.toList.drop 0 = dktX2_sortsBy_0 := by decide +kernel
theorem dksX2_sortsBy_1 : cX2_sortsBy.data.toList.drop 1 = dktX2_sortsBy_1 := dk_seg dksX2_sortsBy_0 1 rfl rfl
theorem dksX2_sortsBy_2 : cX2_sortsBy.data.toList.drop 28 = dktX2_sortsBy_2 := dk_seg dksX2_sortsBy_1 27 rfl rfl
theorem dX2_sortsBy_0 : decode cX2_sortsBy 0 = .ok (.iload_n 0, 1) := dk_26 (dk_at dksX2_sortsBy_0 0 rfl rfl)
theorem dX2_sortsBy_1 : decode cX2_sortsBy 1 = .ok (.tableswitch 35 0 2 #[27, 30, 33], 27) := by decide +kernel
theorem dX2_sortsBy_28 : decode cX2_sortsBy 28 = .ok (.bipush 13, 2) := dk_16 13 (dk_at dksX2_sortsBy_2 0 rfl rfl)
theorem dX2_sortsBy_30 : decode cX2_sortsBy 30 = .ok (.ireturn, 1) := dk_172 (dk_at dksX2_sortsBy_2 2 rfl rfl)
theorem dX2_sortsBy_31 : decode cX2_sortsBy 31 = .ok (.bipush 15, 2) := dk_16 15 (dk_at dksX2_sortsBy_2 3 rfl rfl)
theorem dX2_sortsBy_33 : decode cX2_sortsBy 33 = .ok (.ireturn, 1) := dk_172 (dk_at dksX2_sortsBy_2 5 rfl rfl)
theorem dX2_sortsBy_34 : decode cX2_sortsBy 34 = .ok (.iconst 4, 1) := dk_7 (dk_at dksX2_sortsBy_2 6 rfl rfl)
theorem dX2_sortsBy_35 : decode cX2_sortsBy 35 = .ok (.ireturn, 1) := dk_172 (dk_at dksX2_sortsBy_2 7 rfl rfl)
theorem dX2_sortsBy_36 : decode cX2_sortsBy 36 = .ok (.bipush 23, 2) := dk_16 23 (dk_at dksX2_sortsBy_2 8 rfl rfl)
theorem dX2_sortsBy_38 : decode cX2_sortsBy 38 = .ok (.ireturn, 1) := dk_172 (dk_at dksX2_sortsBy_2 10 rfl rfl)
abbrev cX2_askOf : ByteArray := prog_11_method_65_code
def yX2_askOf : MethodName := ⟨RX2, "askOf", "(I)I"⟩
def dkwX2_askOf_4 : List UInt8 := [132, 5, 1, 167, 255, 176, 29, 172]
abbrev dktX2_askOf_4 : List UInt8 := dkwX2_askOf_4 ++ []
def dkwX2_askOf_3 : List UInt8 := [21, 5, 167, 0, 4, 29, 62, 21, 8, 21, 4, 162, 0, 8, 21, 8, 167, 0, 5, 21, 4, 54, 4]
abbrev dktX2_askOf_3 : List UInt8 := dkwX2_askOf_3 ++ dktX2_askOf_4
def dkwX2_askOf_2 : List UInt8 := [21, 6, 21, 7, 164, 0, 8, 21, 6, 167, 0, 5, 21, 7, 54, 8, 21, 8, 21, 4, 162, 0, 8]
abbrev dktX2_askOf_2 : List UInt8 := dkwX2_askOf_2 ++ dktX2_askOf_3
def dkwX2_askOf_1 : List UInt8 := [153, 0, 76, 28, 21, 5, 184, 1, 29, 126, 184, 1, 35, 54, 6, 28, 184, 1, 35, 21, 6, 100, 54, 7]
abbrev dktX2_askOf_1 : List UInt8 := dkwX2_askOf_1 ++ dktX2_askOf_2
def dkwX2_askOf_0 : List UInt8 := [42, 27, 182, 1, 32, 61, 2, 62, 16, 6, 54, 4, 3, 54, 5, 21, 5, 7, 162, 0, 80, 28]
abbrev dktX2_askOf_0 : List UInt8 := dkwX2_askOf_0 ++ dktX2_askOf_1
theorem dksX2_askOf_0 : cX2_askOf.data.toList.drop 0 = dktX2_askOf_0 := by decide +kernel
theorem dksX2_askOf_1 : cX2_askOf.data.toList.drop 22 = dktX2_askOf_1 := dk_seg dksX2_askOf_0 22 rfl rfl
theorem dksX2_askOf_2 : cX2_askOf.data.toList.drop 46 = dktX2_askOf_2 := dk_seg dksX2_askOf_1 24 rfl rfl
theorem dksX2_askOf_3 : cX2_askOf.data.toList.drop 69 = dktX2_askOf_3 := dk_seg dksX2_askOf_2 23 rfl rfl
theorem dksX2_askOf_4 : cX2_askOf.data.toList.drop 92 = dktX2_askOf_4 := dk_seg dksX2_askOf_3 23 rfl rfl
theorem dX2_askOf_0 : decode cX2_askOf 0 = .ok (.aload_n 0, 1) := dk_42 (dk_at dksX2_askOf_0 0 rfl rfl)
theorem dX2_askOf_1 : decode cX2_askOf 1 = .ok (.iload_n 1, 1) := dk_27 (dk_at dksX2_askOf_0 1 rfl rfl)
theorem dX2_askOf_2 : decode cX2_askOf 2 = .ok (.invokevirtual 288, 3) := dk_182 1 32 (dk_at dksX2_askOf_0 2 rfl rfl)
theorem dX2_askOf_5 : decode cX2_askOf 5 = .ok (.istore_n 2, 1) := dk_61 (dk_at dksX2_askOf_0 5 rfl rfl)
theorem dX2_askOf_6 : decode cX2_askOf 6 = .ok (.iconst (-1), 1) := dk_2 (dk_at dksX2_askOf_0 6 rfl rfl)
theorem dX2_askOf_7 : decode cX2_askOf 7 = .ok (.istore_n 3, 1) := dk_62 (dk_at dksX2_askOf_0 7 rfl rfl)
theorem dX2_askOf_8 : decode cX2_askOf 8 = .ok (.bipush 6, 2) := dk_16 6 (dk_at dksX2_askOf_0 8 rfl rfl)
theorem dX2_askOf_10 : decode cX2_askOf 10 = .ok (.istore 4, 2) := dk_54 4 (dk_at dksX2_askOf_0 10 rfl rfl)
theorem dX2_askOf_12 : decode cX2_askOf 12 = .ok (.iconst 0, 1) := dk_3 (dk_at dksX2_askOf_0 12 rfl rfl)
theorem dX2_askOf_13 : decode cX2_askOf 13 = .ok (.istore 5, 2) := dk_54 5 (dk_at dksX2_askOf_0 13 rfl rfl)
theorem dX2_askOf_15 : decode cX2_askOf 15 = .ok (.iload 5, 2) := dk_21 5 (dk_at dksX2_askOf_0 15 rfl rfl)
theorem dX2_askOf_17 : decode cX2_askOf 17 = .ok (.iconst 4, 1) := dk_7 (dk_at dksX2_askOf_0 17 rfl rfl)
theorem dX2_askOf_18 : decode cX2_askOf 18 = .ok (.if_icmp .ge 80, 3) := dk_162 0 80 (dk_at dksX2_askOf_0 18 rfl rfl)
theorem dX2_askOf_21 : decode cX2_askOf 21 = .ok (.iload_n 2, 1) := dk_28 (dk_at dksX2_askOf_0 21 rfl rfl)
theorem dX2_askOf_22 : decode cX2_askOf 22 = .ok (.ifCond .eq 76, 3) := dk_153 0 76 (dk_at dksX2_askOf_1 0 rfl rfl)
theorem dX2_askOf_25 : decode cX2_askOf 25 = .ok (.iload_n 2, 1) := dk_28 (dk_at dksX2_askOf_1 3 rfl rfl)
theorem dX2_askOf_26 : decode cX2_askOf 26 = .ok (.iload 5, 2) := dk_21 5 (dk_at dksX2_askOf_1 4 rfl rfl)
theorem dX2_askOf_28 : decode cX2_askOf 28 = .ok (.invokestatic 285, 3) := dk_184 1 29 (dk_at dksX2_askOf_1 6 rfl rfl)
theorem dX2_askOf_31 : decode cX2_askOf 31 = .ok (.iand, 1) := dk_126 (dk_at dksX2_askOf_1 9 rfl rfl)
theorem dX2_askOf_32 : decode cX2_askOf 32 = .ok (.invokestatic 291, 3) := dk_184 1 35 (dk_at dksX2_askOf_1 10 rfl rfl)
theorem dX2_askOf_35 : decode cX2_askOf 35 = .ok (.istore 6, 2) := dk_54 6 (dk_at dksX2_askOf_1 13 rfl rfl)
theorem dX2_askOf_37 : decode cX2_askOf 37 = .ok (.iload_n 2, 1) := dk_28 (dk_at dksX2_askOf_1 15 rfl rfl)
theorem dX2_askOf_38 : decode cX2_askOf 38 = .ok (.invokestatic 291, 3) := dk_184 1 35 (dk_at dksX2_askOf_1 16 rfl rfl)
theorem dX2_askOf_41 : decode cX2_askOf 41 = .ok (.iload 6, 2) := dk_21 6 (dk_at dksX2_askOf_1 19 rfl rfl)
theorem dX2_askOf_43 : decode cX2_askOf 43 = .ok (.isub, 1) := dk_100 (dk_at dksX2_askOf_1 21 rfl rfl)
theorem dX2_askOf_44 : decode cX2_askOf 44 = .ok (.istore 7, 2) := dk_54 7 (dk_at dksX2_askOf_1 22 rfl rfl)
theorem dX2_askOf_46 : decode cX2_askOf 46 = .ok (.iload 6, 2) := dk_21 6 (dk_at dksX2_askOf_2 0 rfl rfl)
theorem dX2_askOf_48 : decode cX2_askOf 48 = .ok (.iload 7, 2) := dk_21 7 (dk_at dksX2_askOf_2 2 rfl rfl)
theorem dX2_askOf_50 : decode cX2_askOf 50 = .ok (.if_icmp .le 8, 3) := dk_164 0 8 (dk_at dksX2_askOf_2 4 rfl rfl)
theorem dX2_askOf_53 : decode cX2_askOf 53 = .ok (.iload 6, 2) := dk_21 6 (dk_at dksX2_askOf_2 7 rfl rfl)
theorem dX2_askOf_55 : decode cX2_askOf 55 = .ok (.goto 5, 3) := dk_167 0 5 (dk_at dksX2_askOf_2 9 rfl rfl)
theorem dX2_askOf_58 : decode cX2_askOf 58 = .ok (.iload 7, 2) := dk_21 7 (dk_at dksX2_askOf_2 12 rfl rfl)
theorem dX2_askOf_60 : decode cX2_askOf 60 = .ok (.istore 8, 2) := dk_54 8 (dk_at dksX2_askOf_2 14 rfl rfl)
theorem dX2_askOf_62 : decode cX2_askOf 62 = .ok (.iload 8, 2) := dk_21 8 (dk_at dksX2_askOf_2 16 rfl rfl)
theorem dX2_askOf_64 : decode cX2_askOf 64 = .ok (.iload 4, 2) := dk_21 4 (dk_at dksX2_askOf_2 18 rfl rfl)
theorem dX2_askOf_66 : decode cX2_askOf 66 = .ok (.if_icmp .ge 8, 3) := dk_162 0 8 (dk_at dksX2_askOf_2 20 rfl rfl)
theorem dX2_askOf_69 : decode cX2_askOf 69 = .ok (.iload 5, 2) := dk_21 5 (dk_at dksX2_askOf_3 0 rfl rfl)
theorem dX2_askOf_71 : decode cX2_askOf 71 = .ok (.goto 4, 3) := dk_167 0 4 (dk_at dksX2_askOf_3 2 rfl rfl)
theorem dX2_askOf_74 : decode cX2_askOf 74 = .ok (.iload_n 3, 1) := dk_29 (dk_at dksX2_askOf_3 5 rfl rfl)
theorem dX2_askOf_75 : decode cX2_askOf 75 = .ok (.istore_n 3, 1) := dk_62 (dk_at dksX2_askOf_3 6 rfl rfl)
theorem dX2_askOf_76 : decode cX2_askOf 76 = .ok (.iload 8, 2) := dk_21 8 (dk_at dksX2_askOf_3 7 rfl rfl)
theorem dX2_askOf_78 : decode cX2_askOf 78 = .ok (.iload 4, 2) := dk_21 4 (dk_at dksX2_askOf_3 9 rfl rfl)
theorem dX2_askOf_80 : decode cX2_askOf 80 = .ok (.if_icmp .ge 8, 3) := dk_162 0 8 (dk_at dksX2_askOf_3 11 rfl rfl)
theorem dX2_askOf_83 : decode cX2_askOf 83 = .ok (.iload 8, 2) := dk_21 8 (dk_at dksX2_askOf_3 14 rfl rfl)
theorem dX2_askOf_85 : decode cX2_askOf 85 = .ok (.goto 5, 3) := dk_167 0 5 (dk_at dksX2_askOf_3 16 rfl rfl)
theorem dX2_askOf_88 : decode cX2_askOf 88 = .ok (.iload 4, 2) := dk_21 4 (dk_at dksX2_askOf_3 19 rfl rfl)
theorem dX2_askOf_90 : decode cX2_askOf 90 = .ok (.istore 4, 2) := dk_54 4 (dk_at dksX2_askOf_3 21 rfl rfl)
theorem dX2_askOf_92 : decode cX2_askOf 92 = .ok (.iinc 5 1, 3) := dk_132 5 1 (dk_at dksX2_askOf_4 0 rfl rfl)
theorem dX2_askOf_95 : decode cX2_askOf 95 = .ok (.goto (-80), 3) := dk_167 255 176 (dk_at dksX2_askOf_4 3 rfl rfl)
theorem dX2_askOf_98 : decode cX2_askOf 98 = .ok (.iload_n 3, 1) := dk_29 (dk_at dksX2_askOf_4 6 rfl rfl)
theorem dX2_askOf_99 : decode cX2_askOf 99 = .ok (.ireturn, 1) := dk_172 (dk_at dksX2_askOf_4 7 rfl rfl)
abbrev cX2_ones : ByteArray := prog_11_method_64_code
def yX2_ones : MethodName := ⟨RX2, "ones", "(I)I"⟩
def dkwX2_ones_1 : List UInt8 := [172]
abbrev dktX2_ones_1 : List UInt8 := dkwX2_ones_1 ++ []
def dkwX2_ones_0 : List UInt8 := [3, 60, 3, 61, 28, 8, 162, 0, 17, 27, 26, 28, 122, 4, 126, 96, 60, 132, 2, 1, 167, 255, 240, 27]
abbrev dktX2_ones_0 : List UInt8 := dkwX2_ones_0 ++ dktX2_ones_1
theorem dksX2_ones_0 : cX2_ones.data.toList.drop 0 = dktX2_ones_0 := by decide +kernel
theorem dksX2_ones_1 : cX2_ones.data.toList.drop 24 = dktX2_ones_1 := dk_seg dksX2_ones_0 24 rfl rfl
theorem dX2_ones_0 : decode cX2_ones 0 = .ok (.iconst 0, 1) := dk_3 (dk_at dksX2_ones_0 0 rfl rfl)
theorem dX2_ones_1 : decode cX2_ones 1 = .ok (.istore_n 1, 1) := dk_60 (dk_at dksX2_ones_0 1 rfl rfl)
theorem dX2_ones_2 : decode cX2_ones 2 = .ok (.iconst 0, 1) := dk_3 (dk_at dksX2_ones_0 2 rfl rfl)
theorem dX2_ones_3 : decode cX2_ones 3 = .ok (.istore_n 2, 1) := dk_61 (dk_at dksX2_ones_0 3 rfl rfl)
theorem dX2_ones_4 : decode cX2_ones 4 = .ok (.iload_n 2, 1) := dk_28 (dk_at dksX2_ones_0 4 rfl rfl)
theorem dX2_ones_5 : decode cX2_ones 5 = .ok (.iconst 5, 1) := dk_8 (dk_at dksX2_ones_0 5 rfl rfl)
theorem dX2_ones_6 : decode cX2_ones 6 = .ok (.if_icmp .ge 17, 3) := dk_162 0 17 (dk_at dksX2_ones_0 6 rfl rfl)
theorem dX2_ones_9 : decode cX2_ones 9 = .ok (.iload_n 1, 1) := dk_27 (dk_at dksX2_ones_0 9 rfl rfl)
theorem dX2_ones_10 : decode cX2_ones 10 = .ok (.iload_n 0, 1) := dk_26 (dk_at dksX2_ones_0 10 rfl rfl)
theorem dX2_ones_11 : decode cX2_ones 11 = .ok (.iload_n 2, 1) := dk_28 (dk_at dksX2_ones_0 11 rfl rfl)
theorem dX2_ones_12 : decode cX2_ones 12 = .ok (.ishr, 1) := dk_122 (dk_at dksX2_ones_0 12 rfl rfl)
theorem dX2_ones_13 : decode cX2_ones 13 = .ok (.iconst 1, 1) := dk_4 (dk_at dksX2_ones_0 13 rfl rfl)
theorem dX2_ones_14 : decode cX2_ones 14 = .ok (.iand, 1) := dk_126 (dk_at dksX2_ones_0 14 rfl rfl)
theorem dX2_ones_15 : decode cX2_ones 15 = .ok (.iadd, 1) := dk_96 (dk_at dksX2_ones_0 15 rfl rfl)
theorem dX2_ones_16 : decode cX2_ones 16 = .ok (.istore_n 1, 1) := dk_60 (dk_at dksX2_ones_0 16 rfl rfl)
theorem dX2_ones_17 : decode cX2_ones 17 = .ok (.iinc 2 1, 3) := dk_132 2 1 (dk_at dksX2_ones_0 17 rfl rfl)
theorem dX2_ones_20 : decode cX2_ones 20 = .ok (.goto (-16), 3) := dk_167 255 240 (dk_at dksX2_ones_0 20 rfl rfl)
theorem dX2_ones_23 : decode cX2_ones 23 = .ok (.iload_n 1, 1) := dk_27 (dk_at dksX2_ones_0 23 rfl rfl)
theorem dX2_ones_24 : decode cX2_ones 24 = .ok (.ireturn, 1) := dk_172 (dk_at dksX2_ones_1 0 rfl rfl)
abbrev cX2_drawn : ByteArray := prog_11_method_68_code
def yX2_drawn : MethodName := ⟨RX2, "drawn", "(III)I"⟩
def dkwX2_drawn_6 : List UInt8 := [167, 0, 7, 42, 180, 1, 43, 172]
abbrev dktX2_drawn_6 : List UInt8 := dkwX2_drawn_6 ++ []
def dkwX2_drawn_5 : List UInt8 := [154, 0, 12, 42, 180, 0, 37, 4, 46, 167, 0, 20, 29, 4, 160, 0, 11, 42, 4, 182, 1, 2]
abbrev dktX2_drawn_5 : List UInt8 := dkwX2_drawn_5 ++ dktX2_drawn_6
def dkwX2_drawn_4 : List UInt8 := [180, 0, 28, 4, 46, 16, 40, 162, 0, 10, 42, 4, 21, 5, 182, 0, 227, 132, 4, 1, 167, 255, 197, 29]
abbrev dktX2_drawn_4 : List UInt8 := dkwX2_drawn_4 ++ dktX2_drawn_5
def dkwX2_drawn_3 : List UInt8 := [180, 0, 22, 16, 100, 21, 5, 96, 46, 4, 160, 0, 13, 42, 4, 21, 5, 182, 0, 233, 167, 0, 21, 42]
abbrev dktX2_drawn_3 : List UInt8 := dkwX2_drawn_3 ++ dktX2_drawn_4
def dkwX2_drawn_2 : List UInt8 := [42, 182, 1, 11, 3, 54, 4, 21, 4, 27, 162, 0, 59, 42, 16, 100, 182, 1, 55, 54, 5, 42]
abbrev dktX2_drawn_2 : List UInt8 := dkwX2_drawn_2 ++ dktX2_drawn_3
def dkwX2_drawn_1 : List UInt8 := [184, 0, 94, 154, 0, 6, 16, 154, 172, 42, 182, 0, 236, 153, 0, 6, 16, 153, 172, 42, 28, 181, 1, 43]
abbrev dktX2_drawn_1 : List UInt8 := dkwX2_drawn_1 ++ dktX2_drawn_2
def dkwX2_drawn_0 : List UInt8 := [27, 133, 10, 20, 1, 51, 184, 0, 94, 153, 0, 19, 28, 155, 0, 15, 29, 133, 9, 20, 1, 53]
abbrev dktX2_drawn_0 : List UInt8 := dkwX2_drawn_0 ++ dktX2_drawn_1
theorem dksX2_drawn_0 : cX2_drawn.data.toList.drop 0 = dktX2_drawn_0 := by decide +kernel
theorem dksX2_drawn_1 : cX2_drawn.data.toList.drop 22 = dktX2_drawn_1 := dk_seg dksX2_drawn_0 22 rfl rfl
theorem dksX2_drawn_2 : cX2_drawn.data.toList.drop 46 = dktX2_drawn_2 := dk_seg dksX2_drawn_1 24 rfl rfl
theorem dksX2_drawn_3 : cX2_drawn.data.toList.drop 68 = dktX2_drawn_3 := dk_seg dksX2_drawn_2 22 rfl rfl
theorem dksX2_drawn_4 : cX2_drawn.data.toList.drop 92 = dktX2_drawn_4 := dk_seg dksX2_drawn_3 24 rfl rfl
theorem dksX2_drawn_5 : cX2_drawn.data.toList.drop 116 = dktX2_drawn_5 := dk_seg dksX2_drawn_4 24 rfl rfl
theorem dksX2_drawn_6 : cX2_drawn.data.toList.drop 138 = dktX2_drawn_6 := dk_seg dksX2_drawn_5 22 rfl rfl
theorem dX2_drawn_0 : decode cX2_drawn 0 = .ok (.iload_n 1, 1) := dk_27 (dk_at dksX2_drawn_0 0 rfl rfl)
theorem dX2_drawn_1 : decode cX2_drawn 1 = .ok (.i2l, 1) := dk_133 (dk_at dksX2_drawn_0 1 rfl rfl)
theorem dX2_drawn_2 : decode cX2_drawn 2 = .ok (.lconst 1, 1) := dk_10 (dk_at dksX2_drawn_0 2 rfl rfl)
theorem dX2_drawn_3 : decode cX2_drawn 3 = .ok (.ldc2_w 307, 3) := dk_20 1 51 (dk_at dksX2_drawn_0 3 rfl rfl)
theorem dX2_drawn_6 : decode cX2_drawn 6 = .ok (.invokestatic 94, 3) := dk_184 0 94 (dk_at dksX2_drawn_0 6 rfl rfl)
theorem dX2_drawn_9 : decode cX2_drawn 9 = .ok (.ifCond .eq 19, 3) := dk_153 0 19 (dk_at dksX2_drawn_0 9 rfl rfl)
theorem dX2_drawn_12 : decode cX2_drawn 12 = .ok (.iload_n 2, 1) := dk_28 (dk_at dksX2_drawn_0 12 rfl rfl)
theorem dX2_drawn_13 : decode cX2_drawn 13 = .ok (.ifCond .lt 15, 3) := dk_155 0 15 (dk_at dksX2_drawn_0 13 rfl rfl)
theorem dX2_drawn_16 : decode cX2_drawn 16 = .ok (.iload_n 3, 1) := dk_29 (dk_at dksX2_drawn_0 16 rfl rfl)
theorem dX2_drawn_17 : decode cX2_drawn 17 = .ok (.i2l, 1) := dk_133 (dk_at dksX2_drawn_0 17 rfl rfl)
theorem dX2_drawn_18 : decode cX2_drawn 18 = .ok (.lconst 0, 1) := dk_9 (dk_at dksX2_drawn_0 18 rfl rfl)
theorem dX2_drawn_19 : decode cX2_drawn 19 = .ok (.ldc2_w 309, 3) := dk_20 1 53 (dk_at dksX2_drawn_0 19 rfl rfl)
theorem dX2_drawn_22 : decode cX2_drawn 22 = .ok (.invokestatic 94, 3) := dk_184 0 94 (dk_at dksX2_drawn_1 0 rfl rfl)
theorem dX2_drawn_25 : decode cX2_drawn 25 = .ok (.ifCond .ne 6, 3) := dk_154 0 6 (dk_at dksX2_drawn_1 3 rfl rfl)
theorem dX2_drawn_28 : decode cX2_drawn 28 = .ok (.bipush (-102), 2) := dk_16 154 (dk_at dksX2_drawn_1 6 rfl rfl)
theorem dX2_drawn_30 : decode cX2_drawn 30 = .ok (.ireturn, 1) := dk_172 (dk_at dksX2_drawn_1 8 rfl rfl)
theorem dX2_drawn_31 : decode cX2_drawn 31 = .ok (.aload_n 0, 1) := dk_42 (dk_at dksX2_drawn_1 9 rfl rfl)
theorem dX2_drawn_32 : decode cX2_drawn 32 = .ok (.invokevirtual 236, 3) := dk_182 0 236 (dk_at dksX2_drawn_1 10 rfl rfl)
theorem dX2_drawn_35 : decode cX2_drawn 35 = .ok (.ifCond .eq 6, 3) := dk_153 0 6 (dk_at dksX2_drawn_1 13 rfl rfl)
theorem dX2_drawn_38 : decode cX2_drawn 38 = .ok (.bipush (-103), 2) := dk_16 153 (dk_at dksX2_drawn_1 16 rfl rfl)
theorem dX2_drawn_40 : decode cX2_drawn 40 = .ok (.ireturn, 1) := dk_172 (dk_at dksX2_drawn_1 18 rfl rfl)
theorem dX2_drawn_41 : decode cX2_drawn 41 = .ok (.aload_n 0, 1) := dk_42 (dk_at dksX2_drawn_1 19 rfl rfl)
theorem dX2_drawn_42 : decode cX2_drawn 42 = .ok (.iload_n 2, 1) := dk_28 (dk_at dksX2_drawn_1 20 rfl rfl)
theorem dX2_drawn_43 : decode cX2_drawn 43 = .ok (.putfield 299, 3) := dk_181 1 43 (dk_at dksX2_drawn_1 21 rfl rfl)
theorem dX2_drawn_46 : decode cX2_drawn 46 = .ok (.aload_n 0, 1) := dk_42 (dk_at dksX2_drawn_2 0 rfl rfl)
theorem dX2_drawn_47 : decode cX2_drawn 47 = .ok (.invokevirtual 267, 3) := dk_182 1 11 (dk_at dksX2_drawn_2 1 rfl rfl)
theorem dX2_drawn_50 : decode cX2_drawn 50 = .ok (.iconst 0, 1) := dk_3 (dk_at dksX2_drawn_2 4 rfl rfl)
theorem dX2_drawn_51 : decode cX2_drawn 51 = .ok (.istore 4, 2) := dk_54 4 (dk_at dksX2_drawn_2 5 rfl rfl)
theorem dX2_drawn_53 : decode cX2_drawn 53 = .ok (.iload 4, 2) := dk_21 4 (dk_at dksX2_drawn_2 7 rfl rfl)
theorem dX2_drawn_55 : decode cX2_drawn 55 = .ok (.iload_n 1, 1) := dk_27 (dk_at dksX2_drawn_2 9 rfl rfl)
theorem dX2_drawn_56 : decode cX2_drawn 56 = .ok (.if_icmp .ge 59, 3) := dk_162 0 59 (dk_at dksX2_drawn_2 10 rfl rfl)
theorem dX2_drawn_59 : decode cX2_drawn 59 = .ok (.aload_n 0, 1) := dk_42 (dk_at dksX2_drawn_2 13 rfl rfl)
theorem dX2_drawn_60 : decode cX2_drawn 60 = .ok (.bipush 100, 2) := dk_16 100 (dk_at dksX2_drawn_2 14 rfl rfl)
theorem dX2_drawn_62 : decode cX2_drawn 62 = .ok (.invokevirtual 311, 3) := dk_182 1 55 (dk_at dksX2_drawn_2 16 rfl rfl)
theorem dX2_drawn_65 : decode cX2_drawn 65 = .ok (.istore 5, 2) := dk_54 5 (dk_at dksX2_drawn_2 19 rfl rfl)
theorem dX2_drawn_67 : decode cX2_drawn 67 = .ok (.aload_n 0, 1) := dk_42 (dk_at dksX2_drawn_2 21 rfl rfl)
theorem dX2_drawn_68 : decode cX2_drawn 68 = .ok (.getfield 22, 3) := dk_180 0 22 (dk_at dksX2_drawn_3 0 rfl rfl)
theorem dX2_drawn_71 : decode cX2_drawn 71 = .ok (.bipush 100, 2) := dk_16 100 (dk_at dksX2_drawn_3 3 rfl rfl)
theorem dX2_drawn_73 : decode cX2_drawn 73 = .ok (.iload 5, 2) := dk_21 5 (dk_at dksX2_drawn_3 5 rfl rfl)
theorem dX2_drawn_75 : decode cX2_drawn 75 = .ok (.iadd, 1) := dk_96 (dk_at dksX2_drawn_3 7 rfl rfl)
theorem dX2_drawn_76 : decode cX2_drawn 76 = .ok (.iaload, 1) := dk_46 (dk_at dksX2_drawn_3 8 rfl rfl)
theorem dX2_drawn_77 : decode cX2_drawn 77 = .ok (.iconst 1, 1) := dk_4 (dk_at dksX2_drawn_3 9 rfl rfl)
theorem dX2_drawn_78 : decode cX2_drawn 78 = .ok (.if_icmp .ne 13, 3) := dk_160 0 13 (dk_at dksX2_drawn_3 10 rfl rfl)
theorem dX2_drawn_81 : decode cX2_drawn 81 = .ok (.aload_n 0, 1) := dk_42 (dk_at dksX2_drawn_3 13 rfl rfl)
theorem dX2_drawn_82 : decode cX2_drawn 82 = .ok (.iconst 1, 1) := dk_4 (dk_at dksX2_drawn_3 14 rfl rfl)
theorem dX2_drawn_83 : decode cX2_drawn 83 = .ok (.iload 5, 2) := dk_21 5 (dk_at dksX2_drawn_3 15 rfl rfl)
theorem dX2_drawn_85 : decode cX2_drawn 85 = .ok (.invokevirtual 233, 3) := dk_182 0 233 (dk_at dksX2_drawn_3 17 rfl rfl)
theorem dX2_drawn_88 : decode cX2_drawn 88 = .ok (.goto 21, 3) := dk_167 0 21 (dk_at dksX2_drawn_3 20 rfl rfl)
theorem dX2_drawn_91 : decode cX2_drawn 91 = .ok (.aload_n 0, 1) := dk_42 (dk_at dksX2_drawn_3 23 rfl rfl)
theorem dX2_drawn_92 : decode cX2_drawn 92 = .ok (.getfield 28, 3) := dk_180 0 28 (dk_at dksX2_drawn_4 0 rfl rfl)
theorem dX2_drawn_95 : decode cX2_drawn 95 = .ok (.iconst 1, 1) := dk_4 (dk_at dksX2_drawn_4 3 rfl rfl)
theorem dX2_drawn_96 : decode cX2_drawn 96 = .ok (.iaload, 1) := dk_46 (dk_at dksX2_drawn_4 4 rfl rfl)
theorem dX2_drawn_97 : decode cX2_drawn 97 = .ok (.bipush 40, 2) := dk_16 40 (dk_at dksX2_drawn_4 5 rfl rfl)
theorem dX2_drawn_99 : decode cX2_drawn 99 = .ok (.if_icmp .ge 10, 3) := dk_162 0 10 (dk_at dksX2_drawn_4 7 rfl rfl)
theorem dX2_drawn_102 : decode cX2_drawn 102 = .ok (.aload_n 0, 1) := dk_42 (dk_at dksX2_drawn_4 10 rfl rfl)
theorem dX2_drawn_103 : decode cX2_drawn 103 = .ok (.iconst 1, 1) := dk_4 (dk_at dksX2_drawn_4 11 rfl rfl)
theorem dX2_drawn_104 : decode cX2_drawn 104 = .ok (.iload 5, 2) := dk_21 5 (dk_at dksX2_drawn_4 12 rfl rfl)
theorem dX2_drawn_106 : decode cX2_drawn 106 = .ok (.invokevirtual 227, 3) := dk_182 0 227 (dk_at dksX2_drawn_4 14 rfl rfl)
theorem dX2_drawn_109 : decode cX2_drawn 109 = .ok (.iinc 4 1, 3) := dk_132 4 1 (dk_at dksX2_drawn_4 17 rfl rfl)
theorem dX2_drawn_112 : decode cX2_drawn 112 = .ok (.goto (-59), 3) := dk_167 255 197 (dk_at dksX2_drawn_4 20 rfl rfl)
theorem dX2_drawn_115 : decode cX2_drawn 115 = .ok (.iload_n 3, 1) := dk_29 (dk_at dksX2_drawn_4 23 rfl rfl)
theorem dX2_drawn_116 : decode cX2_drawn 116 = .ok (.ifCond .ne 12, 3) := dk_154 0 12 (dk_at dksX2_drawn_5 0 rfl rfl)
theorem dX2_drawn_119 : decode cX2_drawn 119 = .ok (.aload_n 0, 1) := dk_42 (dk_at dksX2_drawn_5 3 rfl rfl)
theorem dX2_drawn_120 : decode cX2_drawn 120 = .ok (.getfield 37, 3) := dk_180 0 37 (dk_at dksX2_drawn_5 4 rfl rfl)
theorem dX2_drawn_123 : decode cX2_drawn 123 = .ok (.iconst 1, 1) := dk_4 (dk_at dksX2_drawn_5 7 rfl rfl)
theorem dX2_drawn_124 : decode cX2_drawn 124 = .ok (.iaload, 1) := dk_46 (dk_at dksX2_drawn_5 8 rfl rfl)
theorem dX2_drawn_125 : decode cX2_drawn 125 = .ok (.goto 20, 3) := dk_167 0 20 (dk_at dksX2_drawn_5 9 rfl rfl)
theorem dX2_drawn_128 : decode cX2_drawn 128 = .ok (.iload_n 3, 1) := dk_29 (dk_at dksX2_drawn_5 12 rfl rfl)
theorem dX2_drawn_129 : decode cX2_drawn 129 = .ok (.iconst 1, 1) := dk_4 (dk_at dksX2_drawn_5 13 rfl rfl)
theorem dX2_drawn_130 : decode cX2_drawn 130 = .ok (.if_icmp .ne 11, 3) := dk_160 0 11 (dk_at dksX2_drawn_5 14 rfl rfl)
theorem dX2_drawn_133 : decode cX2_drawn 133 = .ok (.aload_n 0, 1) := dk_42 (dk_at dksX2_drawn_5 17 rfl rfl)
theorem dX2_drawn_134 : decode cX2_drawn 134 = .ok (.iconst 1, 1) := dk_4 (dk_at dksX2_drawn_5 18 rfl rfl)
theorem dX2_drawn_135 : decode cX2_drawn 135 = .ok (.invokevirtual 258, 3) := dk_182 1 2 (dk_at dksX2_drawn_5 19 rfl rfl)
theorem dX2_drawn_138 : decode cX2_drawn 138 = .ok (.goto 7, 3) := dk_167 0 7 (dk_at dksX2_drawn_6 0 rfl rfl)
theorem dX2_drawn_141 : decode cX2_drawn 141 = .ok (.aload_n 0, 1) := dk_42 (dk_at dksX2_drawn_6 3 rfl rfl)
theorem dX2_drawn_142 : decode cX2_drawn 142 = .ok (.getfield 299, 3) := dk_180 1 43 (dk_at dksX2_drawn_6 4 rfl rfl)
theorem dX2_drawn_145 : decode cX2_drawn 145 = .ok (.ireturn, 1) := dk_172 (dk_at dksX2_drawn_6 7 rfl rfl)
abbrev cX2_draw : ByteArray := prog_11_method_67_code
def yX2_draw : MethodName := ⟨RX2, "draw", "(I)I"⟩
def dkwX2_draw_1 : List UInt8 := [180, 1, 43, 19, 1, 50, 108, 27, 112, 172]
abbrev dktX2_draw_1 : List UInt8 := dkwX2_draw_1 ++ []
def dkwX2_draw_0 : List UInt8 := [42, 20, 1, 41, 42, 180, 1, 43, 133, 105, 20, 1, 46, 97, 20, 1, 48, 127, 136, 181, 1, 43, 42]
abbrev dktX2_draw_0 : List UInt8 := dkwX2_draw_0 ++ dktX2_draw_1
theorem dksX2_draw_0 : cX2_draw.data.toList.drop 0 = dktX2_draw_0 := by decide +kernel
theorem dksX2_draw_1 : cX2_draw.data.toList.drop 23 = dktX2_draw_1 := dk_seg dksX2_draw_0 23 rfl rfl
theorem dX2_draw_0 : decode cX2_draw 0 = .ok (.aload_n 0, 1) := dk_42 (dk_at dksX2_draw_0 0 rfl rfl)
theorem dX2_draw_1 : decode cX2_draw 1 = .ok (.ldc2_w 297, 3) := dk_20 1 41 (dk_at dksX2_draw_0 1 rfl rfl)
theorem dX2_draw_4 : decode cX2_draw 4 = .ok (.aload_n 0, 1) := dk_42 (dk_at dksX2_draw_0 4 rfl rfl)
theorem dX2_draw_5 : decode cX2_draw 5 = .ok (.getfield 299, 3) := dk_180 1 43 (dk_at dksX2_draw_0 5 rfl rfl)
theorem dX2_draw_8 : decode cX2_draw 8 = .ok (.i2l, 1) := dk_133 (dk_at dksX2_draw_0 8 rfl rfl)
theorem dX2_draw_9 : decode cX2_draw 9 = .ok (.lmul, 1) := dk_105 (dk_at dksX2_draw_0 9 rfl rfl)
theorem dX2_draw_10 : decode cX2_draw 10 = .ok (.ldc2_w 302, 3) := dk_20 1 46 (dk_at dksX2_draw_0 10 rfl rfl)
theorem dX2_draw_13 : decode cX2_draw 13 = .ok (.ladd, 1) := dk_97 (dk_at dksX2_draw_0 13 rfl rfl)
theorem dX2_draw_14 : decode cX2_draw 14 = .ok (.ldc2_w 304, 3) := dk_20 1 48 (dk_at dksX2_draw_0 14 rfl rfl)
theorem dX2_draw_17 : decode cX2_draw 17 = .ok (.land, 1) := dk_127 (dk_at dksX2_draw_0 17 rfl rfl)
theorem dX2_draw_18 : decode cX2_draw 18 = .ok (.l2i, 1) := dk_136 (dk_at dksX2_draw_0 18 rfl rfl)
theorem dX2_draw_19 : decode cX2_draw 19 = .ok (.putfield 299, 3) := dk_181 1 43 (dk_at dksX2_draw_0 19 rfl rfl)
theorem dX2_draw_22 : decode cX2_draw 22 = .ok (.aload_n 0, 1) := dk_42 (dk_at dksX2_draw_0 22 rfl rfl)
theorem dX2_draw_23 : decode cX2_draw 23 = .ok (.getfield 299, 3) := dk_180 1 43 (dk_at dksX2_draw_1 0 rfl rfl)
theorem dX2_draw_26 : decode cX2_draw 26 = .ok (.ldc_w 306, 3) := dk_19 1 50 (dk_at dksX2_draw_1 3 rfl rfl)
theorem dX2_draw_29 : decode cX2_draw 29 = .ok (.idiv, 1) := dk_108 (dk_at dksX2_draw_1 6 rfl rfl)
theorem dX2_draw_30 : decode cX2_draw 30 = .ok (.iload_n 1, 1) := dk_27 (dk_at dksX2_draw_1 7 rfl rfl)
theorem dX2_draw_31 : decode cX2_draw 31 = .ok (.irem, 1) := dk_112 (dk_at dksX2_draw_1 8 rfl rfl)
theorem dX2_draw_32 : decode cX2_draw 32 = .ok (.ireturn, 1) := dk_172 (dk_at dksX2_draw_1 9 rfl rfl)
abbrev cX2_image : ByteArray := prog_11_method_69_code
def yX2_image : MethodName := ⟨RX2, "image", "()I"⟩
def dkwX2_image_8 : List UInt8 := [180, 0, 224, 181, 0, 88, 42, 180, 0, 28, 3, 46, 172]
abbrev dktX2_image_8 : List UInt8 := dkwX2_image_8 ++ []
def dkwX2_image_7 : List UInt8 := [180, 0, 187, 181, 1, 80, 42, 42, 180, 0, 211, 181, 1, 83, 42, 42, 180, 0, 218, 181, 1, 86, 42, 42]
abbrev dktX2_image_7 : List UInt8 := dkwX2_image_7 ++ dktX2_image_8
def dkwX2_image_6 : List UInt8 := [46, 181, 1, 71, 42, 42, 180, 0, 37, 3, 46, 181, 1, 74, 42, 42, 180, 0, 184, 181, 1, 77, 42, 42]
abbrev dktX2_image_6 : List UInt8 := dkwX2_image_6 ++ dktX2_image_7
def dkwX2_image_5 : List UInt8 := [180, 0, 28, 3, 46, 181, 1, 65, 42, 42, 180, 0, 31, 3, 46, 181, 1, 68, 42, 42, 180, 0, 34, 3]
abbrev dktX2_image_5 : List UInt8 := dkwX2_image_5 ++ dktX2_image_6
def dkwX2_image_4 : List UInt8 := [180, 0, 61, 42, 180, 0, 85, 184, 1, 58, 42, 42, 180, 0, 25, 3, 46, 181, 1, 62, 42, 42]
abbrev dktX2_image_4 : List UInt8 := dkwX2_image_4 ++ dktX2_image_5
def dkwX2_image_3 : List UInt8 := [180, 0, 43, 42, 180, 0, 79, 184, 1, 58, 42, 180, 0, 46, 42, 180, 0, 82, 184, 1, 58, 42]
abbrev dktX2_image_3 : List UInt8 := dkwX2_image_3 ++ dktX2_image_4
def dkwX2_image_2 : List UInt8 := [180, 0, 22, 42, 180, 0, 73, 184, 1, 58, 42, 180, 0, 40, 42, 180, 0, 76, 184, 1, 58, 42]
abbrev dktX2_image_2 : List UInt8 := dkwX2_image_2 ++ dktX2_image_3
def dkwX2_image_1 : List UInt8 := [180, 0, 16, 42, 180, 0, 67, 184, 1, 58, 42, 180, 0, 19, 42, 180, 0, 70, 184, 1, 58, 42]
abbrev dktX2_image_1 : List UInt8 := dkwX2_image_1 ++ dktX2_image_2
def dkwX2_image_0 : List UInt8 := [42, 182, 0, 236, 153, 0, 6, 16, 153, 172, 42, 180, 0, 13, 42, 180, 0, 64, 184, 1, 58, 42]
abbrev dktX2_image_0 : List UInt8 := dkwX2_image_0 ++ dktX2_image_1
theorem dksX2_image_0 : cX2_image.data.toList.drop 0 = dktX2_image_0 := by decide +kernel
theorem dksX2_image_1 : cX2_image.data.toList.drop 22 = dktX2_image_1 := dk_seg dksX2_image_0 22 rfl rfl
theorem dksX2_image_2 : cX2_image.data.toList.drop 44 = dktX2_image_2 := dk_seg dksX2_image_1 22 rfl rfl
theorem dksX2_image_3 : cX2_image.data.toList.drop 66 = dktX2_image_3 := dk_seg dksX2_image_2 22 rfl rfl
theorem dksX2_image_4 : cX2_image.data.toList.drop 88 = dktX2_image_4 := dk_seg dksX2_image_3 22 rfl rfl
theorem dksX2_image_5 : cX2_image.data.toList.drop 110 = dktX2_image_5 := dk_seg dksX2_image_4 22 rfl rfl
theorem dksX2_image_6 : cX2_image.data.toList.drop 134 = dktX2_image_6 := dk_seg dksX2_image_5 24 rfl rfl
theorem dksX2_image_7 : cX2_image.data.toList.drop 158 = dktX2_image_7 := dk_seg dksX2_image_6 24 rfl rfl
theorem dksX2_image_8 : cX2_image.data.toList.drop 182 = dktX2_image_8 := dk_seg dksX2_image_7 24 rfl rfl
theorem dX2_image_0 : decode cX2_image 0 = .ok (.aload_n 0, 1) := dk_42 (dk_at dksX2_image_0 0 rfl rfl)
theorem dX2_image_1 : decode cX2_image 1 = .ok (.invokevirtual 236, 3) := dk_182 0 236 (dk_at dksX2_image_0 1 rfl rfl)
theorem dX2_image_4 : decode cX2_image 4 = .ok (.ifCond .eq 6, 3) := dk_153 0 6 (dk_at dksX2_image_0 4 rfl rfl)
theorem dX2_image_7 : decode cX2_image 7 = .ok (.bipush (-103), 2) := dk_16 153 (dk_at dksX2_image_0 7 rfl rfl)
theorem dX2_image_9 : decode cX2_image 9 = .ok (.ireturn, 1) := dk_172 (dk_at dksX2_image_0 9 rfl rfl)
theorem dX2_image_10 : decode cX2_image 10 = .ok (.aload_n 0, 1) := dk_42 (dk_at dksX2_image_0 10 rfl rfl)
theorem dX2_image_11 : decode cX2_image 11 = .ok (.getfield 13, 3) := dk_180 0 13 (dk_at dksX2_image_0 11 rfl rfl)
theorem dX2_image_14 : decode cX2_image 14 = .ok (.aload_n 0, 1) := dk_42 (dk_at dksX2_image_0 14 rfl rfl)
theorem dX2_image_15 : decode cX2_image 15 = .ok (.getfield 64, 3) := dk_180 0 64 (dk_at dksX2_image_0 15 rfl rfl)
theorem dX2_image_18 : decode cX2_image 18 = .ok (.invokestatic 314, 3) := dk_184 1 58 (dk_at dksX2_image_0 18 rfl rfl)
theorem dX2_image_21 : decode cX2_image 21 = .ok (.aload_n 0, 1) := dk_42 (dk_at dksX2_image_0 21 rfl rfl)
theorem dX2_image_22 : decode cX2_image 22 = .ok (.getfield 16, 3) := dk_180 0 16 (dk_at dksX2_image_1 0 rfl rfl)
theorem dX2_image_25 : decode cX2_image 25 = .ok (.aload_n 0, 1) := dk_42 (dk_at dksX2_image_1 3 rfl rfl)
theorem dX2_image_26 : decode cX2_image 26 = .ok (.getfield 67, 3) := dk_180 0 67 (dk_at dksX2_image_1 4 rfl rfl)
theorem dX2_image_29 : decode cX2_image 29 = .ok (.invokestatic 314, 3) := dk_184 1 58 (dk_at dksX2_image_1 7 rfl rfl)
theorem dX2_image_32 : decode cX2_image 32 = .ok (.aload_n 0, 1) := dk_42 (dk_at dksX2_image_1 10 rfl rfl)
theorem dX2_image_33 : decode cX2_image 33 = .ok (.getfield 19, 3) := dk_180 0 19 (dk_at dksX2_image_1 11 rfl rfl)
theorem dX2_image_36 : decode cX2_image 36 = .ok (.aload_n 0, 1) := dk_42 (dk_at dksX2_image_1 14 rfl rfl)
theorem dX2_image_37 : decode cX2_image 37 = .ok (.getfield 70, 3) := dk_180 0 70 (dk_at dksX2_image_1 15 rfl rfl)
theorem dX2_image_40 : decode cX2_image 40 = .ok (.invokestatic 314, 3) := dk_184 1 58 (dk_at dksX2_image_1 18 rfl rfl)
theorem dX2_image_43 : decode cX2_image 43 = .ok (.aload_n 0, 1) := dk_42 (dk_at dksX2_image_1 21 rfl rfl)
theorem dX2_image_44 : decode cX2_image 44 = .ok (.getfield 22, 3) := dk_180 0 22 (dk_at dksX2_image_2 0 rfl rfl)
theorem dX2_image_47 : decode cX2_image 47 = .ok (.aload_n 0, 1) := dk_42 (dk_at dksX2_image_2 3 rfl rfl)
theorem dX2_image_48 : decode cX2_image 48 = .ok (.getfield 73, 3) := dk_180 0 73 (dk_at dksX2_image_2 4 rfl rfl)
theorem dX2_image_51 : decode cX2_image 51 = .ok (.invokestatic 314, 3) := dk_184 1 58 (dk_at dksX2_image_2 7 rfl rfl)
theorem dX2_image_54 : decode cX2_image 54 = .ok (.aload_n 0, 1) := dk_42 (dk_at dksX2_image_2 10 rfl rfl)
theorem dX2_image_55 : decode cX2_image 55 = .ok (.getfield 40, 3) := dk_180 0 40 (dk_at dksX2_image_2 11 rfl rfl)
theorem dX2_image_58 : decode cX2_image 58 = .ok (.aload_n 0, 1) := dk_42 (dk_at dksX2_image_2 14 rfl rfl)
theorem dX2_image_59 : decode cX2_image 59 = .ok (.getfield 76, 3) := dk_180 0 76 (dk_at dksX2_image_2 15 rfl rfl)
theorem dX2_image_62 : decode cX2_image 62 = .ok (.invokestatic 314, 3) := dk_184 1 58 (dk_at dksX2_image_2 18 rfl rfl)
theorem dX2_image_65 : decode cX2_image 65 = .ok (.aload_n 0, 1) := dk_42 (dk_at dksX2_image_2 21 rfl rfl)
theorem dX2_image_66 : decode cX2_image 66 = .ok (.getfield 43, 3) := dk_180 0 43 (dk_at dksX2_image_3 0 rfl rfl)
theorem dX2_image_69 : decode cX2_image 69 = .ok (.aload_n 0, 1) := dk_42 (dk_at dksX2_image_3 3 rfl rfl)
theorem dX2_image_70 : decode cX2_image 70 = .ok (.getfield 79, 3) := dk_180 0 79 (dk_at dksX2_image_3 4 rfl rfl)
theorem dX2_image_73 : decode cX2_image 73 = .ok (.invokestatic 314, 3) := dk_184 1 58 (dk_at dksX2_image_3 7 rfl rfl)
theorem dX2_image_76 : decode cX2_image 76 = .ok (.aload_n 0, 1) := dk_42 (dk_at dksX2_image_3 10 rfl rfl)
theorem dX2_image_77 : decode cX2_image 77 = .ok (.getfield 46, 3) := dk_180 0 46 (dk_at dksX2_image_3 11 rfl rfl)
theorem dX2_image_80 : decode cX2_image 80 = .ok (.aload_n 0, 1) := dk_42 (dk_at dksX2_image_3 14 rfl rfl)
theorem dX2_image_81 : decode cX2_image 81 = .ok (.getfield 82, 3) := dk_180 0 82 (dk_at dksX2_image_3 15 rfl rfl)
theorem dX2_image_84 : decode cX2_image 84 = .ok (.invokestatic 314, 3) := dk_184 1 58 (dk_at dksX2_image_3 18 rfl rfl)
theorem dX2_image_87 : decode cX2_image 87 = .ok (.aload_n 0, 1) := dk_42 (dk_at dksX2_image_3 21 rfl rfl)
theorem dX2_image_88 : decode cX2_image 88 = .ok (.getfield 61, 3) := dk_180 0 61 (dk_at dksX2_image_4 0 rfl rfl)
theorem dX2_image_91 : decode cX2_image 91 = .ok (.aload_n 0, 1) := dk_42 (dk_at dksX2_image_4 3 rfl rfl)
theorem dX2_image_92 : decode cX2_image 92 = .ok (.getfield 85, 3) := dk_180 0 85 (dk_at dksX2_image_4 4 rfl rfl)
theorem dX2_image_95 : decode cX2_image 95 = .ok (.invokestatic 314, 3) := dk_184 1 58 (dk_at dksX2_image_4 7 rfl rfl)
theorem dX2_image_98 : decode cX2_image 98 = .ok (.aload_n 0, 1) := dk_42 (dk_at dksX2_image_4 10 rfl rfl)
theorem dX2_image_99 : decode cX2_image 99 = .ok (.aload_n 0, 1) := dk_42 (dk_at dksX2_image_4 11 rfl rfl)
theorem dX2_image_100 : decode cX2_image 100 = .ok (.getfield 25, 3) := dk_180 0 25 (dk_at dksX2_image_4 12 rfl rfl)
theorem dX2_image_103 : decode cX2_image 103 = .ok (.iconst 0, 1) := dk_3 (dk_at dksX2_image_4 15 rfl rfl)
theorem dX2_image_104 : decode cX2_image 104 = .ok (.iaload, 1) := dk_46 (dk_at dksX2_image_4 16 rfl rfl)
theorem dX2_image_105 : decode cX2_image 105 = .ok (.putfield 318, 3) := dk_181 1 62 (dk_at dksX2_image_4 17 rfl rfl)
theorem dX2_image_108 : decode cX2_image 108 = .ok (.aload_n 0, 1) := dk_42 (dk_at dksX2_image_4 20 rfl rfl)
theorem dX2_image_109 : decode cX2_image 109 = .ok (.aload_n 0, 1) := dk_42 (dk_at dksX2_image_4 21 rfl rfl)
theorem dX2_image_110 : decode cX2_image 110 = .ok (.getfield 28, 3) := dk_180 0 28 (dk_at dksX2_image_5 0 rfl rfl)
theorem dX2_image_113 : decode cX2_image 113 = .ok (.iconst 0, 1) := dk_3 (dk_at dksX2_image_5 3 rfl rfl)
theorem dX2_image_114 : decode cX2_image 114 = .ok (.iaload, 1) := dk_46 (dk_at dksX2_image_5 4 rfl rfl)
theorem dX2_image_115 : decode cX2_image 115 = .ok (.putfield 321, 3) := dk_181 1 65 (dk_at dksX2_image_5 5 rfl rfl)
theorem dX2_image_118 : decode cX2_image 118 = .ok (.aload_n 0, 1) := dk_42 (dk_at dksX2_image_5 8 rfl rfl)
theorem dX2_image_119 : decode cX2_image 119 = .ok (.aload_n 0, 1) := dk_42 (dk_at dksX2_image_5 9 rfl rfl)
theorem dX2_image_120 : decode cX2_image 120 = .ok (.getfield 31, 3) := dk_180 0 31 (dk_at dksX2_image_5 10 rfl rfl)
theorem dX2_image_123 : decode cX2_image 123 = .ok (.iconst 0, 1) := dk_3 (dk_at dksX2_image_5 13 rfl rfl)
theorem dX2_image_124 : decode cX2_image 124 = .ok (.iaload, 1) := dk_46 (dk_at dksX2_image_5 14 rfl rfl)
theorem dX2_image_125 : decode cX2_image 125 = .ok (.putfield 324, 3) := dk_181 1 68 (dk_at dksX2_image_5 15 rfl rfl)
theorem dX2_image_128 : decode cX2_image 128 = .ok (.aload_n 0, 1) := dk_42 (dk_at dksX2_image_5 18 rfl rfl)
theorem dX2_image_129 : decode cX2_image 129 = .ok (.aload_n 0, 1) := dk_42 (dk_at dksX2_image_5 19 rfl rfl)
theorem dX2_image_130 : decode cX2_image 130 = .ok (.getfield 34, 3) := dk_180 0 34 (dk_at dksX2_image_5 20 rfl rfl)
theorem dX2_image_133 : decode cX2_image 133 = .ok (.iconst 0, 1) := dk_3 (dk_at dksX2_image_5 23 rfl rfl)
theorem dX2_image_134 : decode cX2_image 134 = .ok (.iaload, 1) := dk_46 (dk_at dksX2_image_6 0 rfl rfl)
theorem dX2_image_135 : decode cX2_image 135 = .ok (.putfield 327, 3) := dk_181 1 71 (dk_at dksX2_image_6 1 rfl rfl)
theorem dX2_image_138 : decode cX2_image 138 = .ok (.aload_n 0, 1) := dk_42 (dk_at dksX2_image_6 4 rfl rfl)
theorem dX2_image_139 : decode cX2_image 139 = .ok (.aload_n 0, 1) := dk_42 (dk_at dksX2_image_6 5 rfl rfl)
theorem dX2_image_140 : decode cX2_image 140 = .ok (.getfield 37, 3) := dk_180 0 37 (dk_at dksX2_image_6 6 rfl rfl)
theorem dX2_image_143 : decode cX2_image 143 = .ok (.iconst 0, 1) := dk_3 (dk_at dksX2_image_6 9 rfl rfl)
theorem dX2_image_144 : decode cX2_image 144 = .ok (.iaload, 1) := dk_46 (dk_at dksX2_image_6 10 rfl rfl)
theorem dX2_image_145 : decode cX2_image 145 = .ok (.putfield 330, 3) := dk_181 1 74 (dk_at dksX2_image_6 11 rfl rfl)
theorem dX2_image_148 : decode cX2_image 148 = .ok (.aload_n 0, 1) := dk_42 (dk_at dksX2_image_6 14 rfl rfl)
theorem dX2_image_149 : decode cX2_image 149 = .ok (.aload_n 0, 1) := dk_42 (dk_at dksX2_image_6 15 rfl rfl)
theorem dX2_image_150 : decode cX2_image 150 = .ok (.getfield 184, 3) := dk_180 0 184 (dk_at dksX2_image_6 16 rfl rfl)
theorem dX2_image_153 : decode cX2_image 153 = .ok (.putfield 333, 3) := dk_181 1 77 (dk_at dksX2_image_6 19 rfl rfl)
theorem dX2_image_156 : decode cX2_image 156 = .ok (.aload_n 0, 1) := dk_42 (dk_at dksX2_image_6 22 rfl rfl)
theorem dX2_image_157 : decode cX2_image 157 = .ok (.aload_n 0, 1) := dk_42 (dk_at dksX2_image_6 23 rfl rfl)
theorem dX2_image_158 : decode cX2_image 158 = .ok (.getfield 187, 3) := dk_180 0 187 (dk_at dksX2_image_7 0 rfl rfl)
theorem dX2_image_161 : decode cX2_image 161 = .ok (.putfield 336, 3) := dk_181 1 80 (dk_at dksX2_image_7 3 rfl rfl)
theorem dX2_image_164 : decode cX2_image 164 = .ok (.aload_n 0, 1) := dk_42 (dk_at dksX2_image_7 6 rfl rfl)
theorem dX2_image_165 : decode cX2_image 165 = .ok (.aload_n 0, 1) := dk_42 (dk_at dksX2_image_7 7 rfl rfl)
theorem dX2_image_166 : decode cX2_image 166 = .ok (.getfield 211, 3) := dk_180 0 211 (dk_at dksX2_image_7 8 rfl rfl)
theorem dX2_image_169 : decode cX2_image 169 = .ok (.putfield 339, 3) := dk_181 1 83 (dk_at dksX2_image_7 11 rfl rfl)
theorem dX2_image_172 : decode cX2_image 172 = .ok (.aload_n 0, 1) := dk_42 (dk_at dksX2_image_7 14 rfl rfl)
theorem dX2_image_173 : decode cX2_image 173 = .ok (.aload_n 0, 1) := dk_42 (dk_at dksX2_image_7 15 rfl rfl)
theorem dX2_image_174 : decode cX2_image 174 = .ok (.getfield 218, 3) := dk_180 0 218 (dk_at dksX2_image_7 16 rfl rfl)
theorem dX2_image_177 : decode cX2_image 177 = .ok (.putfield 342, 3) := dk_181 1 86 (dk_at dksX2_image_7 19 rfl rfl)
theorem dX2_image_180 : decode cX2_image 180 = .ok (.aload_n 0, 1) := dk_42 (dk_at dksX2_image_7 22 rfl rfl)
theorem dX2_image_181 : decode cX2_image 181 = .ok (.aload_n 0, 1) := dk_42 (dk_at dksX2_image_7 23 rfl rfl)
theorem dX2_image_182 : decode cX2_image 182 = .ok (.getfield 224, 3) := dk_180 0 224 (dk_at dksX2_image_8 0 rfl rfl)
theorem dX2_image_185 : decode cX2_image 185 = .ok (.putfield 88, 3) := dk_181 0 88 (dk_at dksX2_image_8 3 rfl rfl)
theorem dX2_image_188 : decode cX2_image 188 = .ok (.aload_n 0, 1) := dk_42 (dk_at dksX2_image_8 6 rfl rfl)
theorem dX2_image_189 : decode cX2_image 189 = .ok (.getfield 28, 3) := dk_180 0 28 (dk_at dksX2_image_8 7 rfl rfl)
theorem dX2_image_192 : decode cX2_image 192 = .ok (.iconst 0, 1) := dk_3 (dk_at dksX2_image_8 10 rfl rfl)
theorem dX2_image_193 : decode cX2_image 193 = .ok (.iaload, 1) := dk_46 (dk_at dksX2_image_8 11 rfl rfl)
theorem dX2_image_194 : decode cX2_image 194 = .ok (.ireturn, 1) := dk_172 (dk_at dksX2_image_8 12 rfl rfl)
abbrev cX2_copy : ByteArray := prog_11_method_3_code
def yX2_copy : MethodName := ⟨RX2, "copy", "([I[I)V"⟩
def dkwX2_copy_0 : List UInt8 := [3, 61, 28, 42, 190, 162, 0, 15, 43, 28, 42, 28, 46, 79, 132, 2, 1, 167, 255, 241, 177]
abbrev dktX2_copy_0 : List UInt8 := dkwX2_copy_0 ++ []
theorem dksX2_copy_0 : cX2_copy.data.toList.drop 0 = dktX2_copy_0 := by decide +kernel
theorem dX2_copy_0 : decode cX2_copy 0 = .ok (.iconst 0, 1) := dk_3 (dk_at dksX2_copy_0 0 rfl rfl)
theorem dX2_copy_1 : decode cX2_copy 1 = .ok (.istore_n 2, 1) := dk_61 (dk_at dksX2_copy_0 1 rfl rfl)
theorem dX2_copy_2 : decode cX2_copy 2 = .ok (.iload_n 2, 1) := dk_28 (dk_at dksX2_copy_0 2 rfl rfl)
theorem dX2_copy_3 : decode cX2_copy 3 = .ok (.aload_n 0, 1) := dk_42 (dk_at dksX2_copy_0 3 rfl rfl)
theorem dX2_copy_4 : decode cX2_copy 4 = .ok (.arraylength, 1) := dk_190 (dk_at dksX2_copy_0 4 rfl rfl)
theorem dX2_copy_5 : decode cX2_copy 5 = .ok (.if_icmp .ge 15, 3) := dk_162 0 15 (dk_at dksX2_copy_0 5 rfl rfl)
theorem dX2_copy_8 : decode cX2_copy 8 = .ok (.aload_n 1, 1) := dk_43 (dk_at dksX2_copy_0 8 rfl rfl)
theorem dX2_copy_9 : decode cX2_copy 9 = .ok (.iload_n 2, 1) := dk_28 (dk_at dksX2_copy_0 9 rfl rfl)
theorem dX2_copy_10 : decode cX2_copy 10 = .ok (.aload_n 0, 1) := dk_42 (dk_at dksX2_copy_0 10 rfl rfl)
theorem dX2_copy_11 : decode cX2_copy 11 = .ok (.iload_n 2, 1) := dk_28 (dk_at dksX2_copy_0 11 rfl rfl)
theorem dX2_copy_12 : decode cX2_copy 12 = .ok (.iaload, 1) := dk_46 (dk_at dksX2_copy_0 12 rfl rfl)
theorem dX2_copy_13 : decode cX2_copy 13 = .ok (.iastore, 1) := dk_79 (dk_at dksX2_copy_0 13 rfl rfl)
theorem dX2_copy_14 : decode cX2_copy 14 = .ok (.iinc 2 1, 3) := dk_132 2 1 (dk_at dksX2_copy_0 14 rfl rfl)
theorem dX2_copy_17 : decode cX2_copy 17 = .ok (.goto (-15), 3) := dk_167 255 241 (dk_at dksX2_copy_0 17 rfl rfl)
theorem dX2_copy_20 : decode cX2_copy 20 = .ok (.return_, 1) := dk_177 (dk_at dksX2_copy_0 20 rfl rfl)
abbrev cX2_restore : ByteArray := prog_11_method_70_code
def yX2_restore : MethodName := ⟨RX2, "restore", "()I"⟩
def dkwX2_restore_8 : List UInt8 := [42, 180, 0, 28, 3, 46, 172]
abbrev dktX2_restore_8 : List UInt8 := dkwX2_restore_8 ++ []
def dkwX2_restore_7 : List UInt8 := [42, 42, 180, 1, 80, 181, 0, 187, 42, 42, 180, 1, 83, 181, 0, 211, 42, 42, 180, 1, 86, 181, 0, 218]
abbrev dktX2_restore_7 : List UInt8 := dkwX2_restore_7 ++ dktX2_restore_8
def dkwX2_restore_6 : List UInt8 := [3, 42, 180, 1, 71, 79, 42, 180, 0, 37, 3, 42, 180, 1, 74, 79, 42, 42, 180, 1, 77, 181, 0, 184]
abbrev dktX2_restore_6 : List UInt8 := dkwX2_restore_6 ++ dktX2_restore_7
def dkwX2_restore_5 : List UInt8 := [42, 180, 0, 28, 3, 42, 180, 1, 65, 79, 42, 180, 0, 31, 3, 42, 180, 1, 68, 79, 42, 180, 0, 34]
abbrev dktX2_restore_5 : List UInt8 := dkwX2_restore_5 ++ dktX2_restore_6
def dkwX2_restore_4 : List UInt8 := [184, 1, 58, 42, 180, 0, 85, 42, 180, 0, 61, 184, 1, 58, 42, 180, 0, 25, 3, 42, 180, 1, 62, 79]
abbrev dktX2_restore_4 : List UInt8 := dkwX2_restore_4 ++ dktX2_restore_5
def dkwX2_restore_3 : List UInt8 := [184, 1, 58, 42, 180, 0, 79, 42, 180, 0, 43, 184, 1, 58, 42, 180, 0, 82, 42, 180, 0, 46]
abbrev dktX2_restore_3 : List UInt8 := dkwX2_restore_3 ++ dktX2_restore_4
def dkwX2_restore_2 : List UInt8 := [184, 1, 58, 42, 180, 0, 73, 42, 180, 0, 22, 184, 1, 58, 42, 180, 0, 76, 42, 180, 0, 40]
abbrev dktX2_restore_2 : List UInt8 := dkwX2_restore_2 ++ dktX2_restore_3
def dkwX2_restore_1 : List UInt8 := [184, 1, 58, 42, 180, 0, 67, 42, 180, 0, 16, 184, 1, 58, 42, 180, 0, 70, 42, 180, 0, 19]
abbrev dktX2_restore_1 : List UInt8 := dkwX2_restore_1 ++ dktX2_restore_2
def dkwX2_restore_0 : List UInt8 := [42, 180, 0, 88, 42, 180, 0, 224, 159, 0, 6, 16, 153, 172, 42, 180, 0, 64, 42, 180, 0, 13]
abbrev dktX2_restore_0 : List UInt8 := dkwX2_restore_0 ++ dktX2_restore_1
theorem dksX2_restore_0 : cX2_restore.data.toList.drop 0 = dktX2_restore_0 := by decide +kernel
theorem dksX2_restore_1 : cX2_restore.data.toList.drop 22 = dktX2_restore_1 := dk_seg dksX2_restore_0 22 rfl rfl
theorem dksX2_restore_2 : cX2_restore.data.toList.drop 44 = dktX2_restore_2 := dk_seg dksX2_restore_1 22 rfl rfl
theorem dksX2_restore_3 : cX2_restore.data.toList.drop 66 = dktX2_restore_3 := dk_seg dksX2_restore_2 22 rfl rfl
theorem dksX2_restore_4 : cX2_restore.data.toList.drop 88 = dktX2_restore_4 := dk_seg dksX2_restore_3 22 rfl rfl
theorem dksX2_restore_5 : cX2_restore.data.toList.drop 112 = dktX2_restore_5 := dk_seg dksX2_restore_4 24 rfl rfl
theorem dksX2_restore_6 : cX2_restore.data.toList.drop 136 = dktX2_restore_6 := dk_seg dksX2_restore_5 24 rfl rfl
theorem dksX2_restore_7 : cX2_restore.data.toList.drop 160 = dktX2_restore_7 := dk_seg dksX2_restore_6 24 rfl rfl
theorem dksX2_restore_8 : cX2_restore.data.toList.drop 184 = dktX2_restore_8 := dk_seg dksX2_restore_7 24 rfl rfl
theorem dX2_restore_0 : decode cX2_restore 0 = .ok (.aload_n 0, 1) := dk_42 (dk_at dksX2_restore_0 0 rfl rfl)
theorem dX2_restore_1 : decode cX2_restore 1 = .ok (.getfield 88, 3) := dk_180 0 88 (dk_at dksX2_restore_0 1 rfl rfl)
theorem dX2_restore_4 : decode cX2_restore 4 = .ok (.aload_n 0, 1) := dk_42 (dk_at dksX2_restore_0 4 rfl rfl)
theorem dX2_restore_5 : decode cX2_restore 5 = .ok (.getfield 224, 3) := dk_180 0 224 (dk_at dksX2_restore_0 5 rfl rfl)
theorem dX2_restore_8 : decode cX2_restore 8 = .ok (.if_icmp .eq 6, 3) := dk_159 0 6 (dk_at dksX2_restore_0 8 rfl rfl)
theorem dX2_restore_11 : decode cX2_restore 11 = .ok (.bipush (-103), 2) := dk_16 153 (dk_at dksX2_restore_0 11 rfl rfl)
theorem dX2_restore_13 : decode cX2_restore 13 = .ok (.ireturn, 1) := dk_172 (dk_at dksX2_restore_0 13 rfl rfl)
theorem dX2_restore_14 : decode cX2_restore 14 = .ok (.aload_n 0, 1) := dk_42 (dk_at dksX2_restore_0 14 rfl rfl)
theorem dX2_restore_15 : decode cX2_restore 15 = .ok (.getfield 64, 3) := dk_180 0 64 (dk_at dksX2_restore_0 15 rfl rfl)
theorem dX2_restore_18 : decode cX2_restore 18 = .ok (.aload_n 0, 1) := dk_42 (dk_at dksX2_restore_0 18 rfl rfl)
theorem dX2_restore_19 : decode cX2_restore 19 = .ok (.getfield 13, 3) := dk_180 0 13 (dk_at dksX2_restore_0 19 rfl rfl)
theorem dX2_restore_22 : decode cX2_restore 22 = .ok (.invokestatic 314, 3) := dk_184 1 58 (dk_at dksX2_restore_1 0 rfl rfl)
theorem dX2_restore_25 : decode cX2_restore 25 = .ok (.aload_n 0, 1) := dk_42 (dk_at dksX2_restore_1 3 rfl rfl)
theorem dX2_restore_26 : decode cX2_restore 26 = .ok (.getfield 67, 3) := dk_180 0 67 (dk_at dksX2_restore_1 4 rfl rfl)
theorem dX2_restore_29 : decode cX2_restore 29 = .ok (.aload_n 0, 1) := dk_42 (dk_at dksX2_restore_1 7 rfl rfl)
theorem dX2_restore_30 : decode cX2_restore 30 = .ok (.getfield 16, 3) := dk_180 0 16 (dk_at dksX2_restore_1 8 rfl rfl)
theorem dX2_restore_33 : decode cX2_restore 33 = .ok (.invokestatic 314, 3) := dk_184 1 58 (dk_at dksX2_restore_1 11 rfl rfl)
theorem dX2_restore_36 : decode cX2_restore 36 = .ok (.aload_n 0, 1) := dk_42 (dk_at dksX2_restore_1 14 rfl rfl)
theorem dX2_restore_37 : decode cX2_restore 37 = .ok (.getfield 70, 3) := dk_180 0 70 (dk_at dksX2_restore_1 15 rfl rfl)
theorem dX2_restore_40 : decode cX2_restore 40 = .ok (.aload_n 0, 1) := dk_42 (dk_at dksX2_restore_1 18 rfl rfl)
theorem dX2_restore_41 : decode cX2_restore 41 = .ok (.getfield 19, 3) := dk_180 0 19 (dk_at dksX2_restore_1 19 rfl rfl)
theorem dX2_restore_44 : decode cX2_restore 44 = .ok (.invokestatic 314, 3) := dk_184 1 58 (dk_at dksX2_restore_2 0 rfl rfl)
theorem dX2_restore_47 : decode cX2_restore 47 = .ok (.aload_n 0, 1) := dk_42 (dk_at dksX2_restore_2 3 rfl rfl)
theorem dX2_restore_48 : decode cX2_restore 48 = .ok (.getfield 73, 3) := dk_180 0 73 (dk_at dksX2_restore_2 4 rfl rfl)
theorem dX2_restore_51 : decode cX2_restore 51 = .ok (.aload_n 0, 1) := dk_42 (dk_at dksX2_restore_2 7 rfl rfl)
theorem dX2_restore_52 : decode cX2_restore 52 = .ok (.getfield 22, 3) := dk_180 0 22 (dk_at dksX2_restore_2 8 rfl rfl)
theorem dX2_restore_55 : decode cX2_restore 55 = .ok (.invokestatic 314, 3) := dk_184 1 58 (dk_at dksX2_restore_2 11 rfl rfl)
theorem dX2_restore_58 : decode cX2_restore 58 = .ok (.aload_n 0, 1) := dk_42 (dk_at dksX2_restore_2 14 rfl rfl)
theorem dX2_restore_59 : decode cX2_restore 59 = .ok (.getfield 76, 3) := dk_180 0 76 (dk_at dksX2_restore_2 15 rfl rfl)
theorem dX2_restore_62 : decode cX2_restore 62 = .ok (.aload_n 0, 1) := dk_42 (dk_at dksX2_restore_2 18 rfl rfl)
theorem dX2_restore_63 : decode cX2_restore 63 = .ok (.getfield 40, 3) := dk_180 0 40 (dk_at dksX2_restore_2 19 rfl rfl)
theorem dX2_restore_66 : decode cX2_restore 66 = .ok (.invokestatic 314, 3) := dk_184 1 58 (dk_at dksX2_restore_3 0 rfl rfl)
theorem dX2_restore_69 : decode cX2_restore 69 = .ok (.aload_n 0, 1) := dk_42 (dk_at dksX2_restore_3 3 rfl rfl)
theorem dX2_restore_70 : decode cX2_restore 70 = .ok (.getfield 79, 3) := dk_180 0 79 (dk_at dksX2_restore_3 4 rfl rfl)
theorem dX2_restore_73 : decode cX2_restore 73 = .ok (.aload_n 0, 1) := dk_42 (dk_at dksX2_restore_3 7 rfl rfl)
theorem dX2_restore_74 : decode cX2_restore 74 = .ok (.getfield 43, 3) := dk_180 0 43 (dk_at dksX2_restore_3 8 rfl rfl)
theorem dX2_restore_77 : decode cX2_restore 77 = .ok (.invokestatic 314, 3) := dk_184 1 58 (dk_at dksX2_restore_3 11 rfl rfl)
theorem dX2_restore_80 : decode cX2_restore 80 = .ok (.aload_n 0, 1) := dk_42 (dk_at dksX2_restore_3 14 rfl rfl)
theorem dX2_restore_81 : decode cX2_restore 81 = .ok (.getfield 82, 3) := dk_180 0 82 (dk_at dksX2_restore_3 15 rfl rfl)
theorem dX2_restore_84 : decode cX2_restore 84 = .ok (.aload_n 0, 1) := dk_42 (dk_at dksX2_restore_3 18 rfl rfl)
theorem dX2_restore_85 : decode cX2_restore 85 = .ok (.getfield 46, 3) := dk_180 0 46 (dk_at dksX2_restore_3 19 rfl rfl)
theorem dX2_restore_88 : decode cX2_restore 88 = .ok (.invokestatic 314, 3) := dk_184 1 58 (dk_at dksX2_restore_4 0 rfl rfl)
theorem dX2_restore_91 : decode cX2_restore 91 = .ok (.aload_n 0, 1) := dk_42 (dk_at dksX2_restore_4 3 rfl rfl)
theorem dX2_restore_92 : decode cX2_restore 92 = .ok (.getfield 85, 3) := dk_180 0 85 (dk_at dksX2_restore_4 4 rfl rfl)
theorem dX2_restore_95 : decode cX2_restore 95 = .ok (.aload_n 0, 1) := dk_42 (dk_at dksX2_restore_4 7 rfl rfl)
theorem dX2_restore_96 : decode cX2_restore 96 = .ok (.getfield 61, 3) := dk_180 0 61 (dk_at dksX2_restore_4 8 rfl rfl)
theorem dX2_restore_99 : decode cX2_restore 99 = .ok (.invokestatic 314, 3) := dk_184 1 58 (dk_at dksX2_restore_4 11 rfl rfl)
theorem dX2_restore_102 : decode cX2_restore 102 = .ok (.aload_n 0, 1) := dk_42 (dk_at dksX2_restore_4 14 rfl rfl)
theorem dX2_restore_103 : decode cX2_restore 103 = .ok (.getfield 25, 3) := dk_180 0 25 (dk_at dksX2_restore_4 15 rfl rfl)
theorem dX2_restore_106 : decode cX2_restore 106 = .ok (.iconst 0, 1) := dk_3 (dk_at dksX2_restore_4 18 rfl rfl)
theorem dX2_restore_107 : decode cX2_restore 107 = .ok (.aload_n 0, 1) := dk_42 (dk_at dksX2_restore_4 19 rfl rfl)
theorem dX2_restore_108 : decode cX2_restore 108 = .ok (.getfield 318, 3) := dk_180 1 62 (dk_at dksX2_restore_4 20 rfl rfl)
theorem dX2_restore_111 : decode cX2_restore 111 = .ok (.iastore, 1) := dk_79 (dk_at dksX2_restore_4 23 rfl rfl)
theorem dX2_restore_112 : decode cX2_restore 112 = .ok (.aload_n 0, 1) := dk_42 (dk_at dksX2_restore_5 0 rfl rfl)
theorem dX2_restore_113 : decode cX2_restore 113 = .ok (.getfield 28, 3) := dk_180 0 28 (dk_at dksX2_restore_5 1 rfl rfl)
theorem dX2_restore_116 : decode cX2_restore 116 = .ok (.iconst 0, 1) := dk_3 (dk_at dksX2_restore_5 4 rfl rfl)
theorem dX2_restore_117 : decode cX2_restore 117 = .ok (.aload_n 0, 1) := dk_42 (dk_at dksX2_restore_5 5 rfl rfl)
theorem dX2_restore_118 : decode cX2_restore 118 = .ok (.getfield 321, 3) := dk_180 1 65 (dk_at dksX2_restore_5 6 rfl rfl)
theorem dX2_restore_121 : decode cX2_restore 121 = .ok (.iastore, 1) := dk_79 (dk_at dksX2_restore_5 9 rfl rfl)
theorem dX2_restore_122 : decode cX2_restore 122 = .ok (.aload_n 0, 1) := dk_42 (dk_at dksX2_restore_5 10 rfl rfl)
theorem dX2_restore_123 : decode cX2_restore 123 = .ok (.getfield 31, 3) := dk_180 0 31 (dk_at dksX2_restore_5 11 rfl rfl)
theorem dX2_restore_126 : decode cX2_restore 126 = .ok (.iconst 0, 1) := dk_3 (dk_at dksX2_restore_5 14 rfl rfl)
theorem dX2_restore_127 : decode cX2_restore 127 = .ok (.aload_n 0, 1) := dk_42 (dk_at dksX2_restore_5 15 rfl rfl)
theorem dX2_restore_128 : decode cX2_restore 128 = .ok (.getfield 324, 3) := dk_180 1 68 (dk_at dksX2_restore_5 16 rfl rfl)
theorem dX2_restore_131 : decode cX2_restore 131 = .ok (.iastore, 1) := dk_79 (dk_at dksX2_restore_5 19 rfl rfl)
theorem dX2_restore_132 : decode cX2_restore 132 = .ok (.aload_n 0, 1) := dk_42 (dk_at dksX2_restore_5 20 rfl rfl)
theorem dX2_restore_133 : decode cX2_restore 133 = .ok (.getfield 34, 3) := dk_180 0 34 (dk_at dksX2_restore_5 21 rfl rfl)
theorem dX2_restore_136 : decode cX2_restore 136 = .ok (.iconst 0, 1) := dk_3 (dk_at dksX2_restore_6 0 rfl rfl)
theorem dX2_restore_137 : decode cX2_restore 137 = .ok (.aload_n 0, 1) := dk_42 (dk_at dksX2_restore_6 1 rfl rfl)
theorem dX2_restore_138 : decode cX2_restore 138 = .ok (.getfield 327, 3) := dk_180 1 71 (dk_at dksX2_restore_6 2 rfl rfl)
theorem dX2_restore_141 : decode cX2_restore 141 = .ok (.iastore, 1) := dk_79 (dk_at dksX2_restore_6 5 rfl rfl)
theorem dX2_restore_142 : decode cX2_restore 142 = .ok (.aload_n 0, 1) := dk_42 (dk_at dksX2_restore_6 6 rfl rfl)
theorem dX2_restore_143 : decode cX2_restore 143 = .ok (.getfield 37, 3) := dk_180 0 37 (dk_at dksX2_restore_6 7 rfl rfl)
theorem dX2_restore_146 : decode cX2_restore 146 = .ok (.iconst 0, 1) := dk_3 (dk_at dksX2_restore_6 10 rfl rfl)
theorem dX2_restore_147 : decode cX2_restore 147 = .ok (.aload_n 0, 1) := dk_42 (dk_at dksX2_restore_6 11 rfl rfl)
theorem dX2_restore_148 : decode cX2_restore 148 = .ok (.getfield 330, 3) := dk_180 1 74 (dk_at dksX2_restore_6 12 rfl rfl)
theorem dX2_restore_151 : decode cX2_restore 151 = .ok (.iastore, 1) := dk_79 (dk_at dksX2_restore_6 15 rfl rfl)
theorem dX2_restore_152 : decode cX2_restore 152 = .ok (.aload_n 0, 1) := dk_42 (dk_at dksX2_restore_6 16 rfl rfl)
theorem dX2_restore_153 : decode cX2_restore 153 = .ok (.aload_n 0, 1) := dk_42 (dk_at dksX2_restore_6 17 rfl rfl)
theorem dX2_restore_154 : decode cX2_restore 154 = .ok (.getfield 333, 3) := dk_180 1 77 (dk_at dksX2_restore_6 18 rfl rfl)
theorem dX2_restore_157 : decode cX2_restore 157 = .ok (.putfield 184, 3) := dk_181 0 184 (dk_at dksX2_restore_6 21 rfl rfl)
theorem dX2_restore_160 : decode cX2_restore 160 = .ok (.aload_n 0, 1) := dk_42 (dk_at dksX2_restore_7 0 rfl rfl)
theorem dX2_restore_161 : decode cX2_restore 161 = .ok (.aload_n 0, 1) := dk_42 (dk_at dksX2_restore_7 1 rfl rfl)
theorem dX2_restore_162 : decode cX2_restore 162 = .ok (.getfield 336, 3) := dk_180 1 80 (dk_at dksX2_restore_7 2 rfl rfl)
theorem dX2_restore_165 : decode cX2_restore 165 = .ok (.putfield 187, 3) := dk_181 0 187 (dk_at dksX2_restore_7 5 rfl rfl)
theorem dX2_restore_168 : decode cX2_restore 168 = .ok (.aload_n 0, 1) := dk_42 (dk_at dksX2_restore_7 8 rfl rfl)
theorem dX2_restore_169 : decode cX2_restore 169 = .ok (.aload_n 0, 1) := dk_42 (dk_at dksX2_restore_7 9 rfl rfl)
theorem dX2_restore_170 : decode cX2_restore 170 = .ok (.getfield 339, 3) := dk_180 1 83 (dk_at dksX2_restore_7 10 rfl rfl)
theorem dX2_restore_173 : decode cX2_restore 173 = .ok (.putfield 211, 3) := dk_181 0 211 (dk_at dksX2_restore_7 13 rfl rfl)
theorem dX2_restore_176 : decode cX2_restore 176 = .ok (.aload_n 0, 1) := dk_42 (dk_at dksX2_restore_7 16 rfl rfl)
theorem dX2_restore_177 : decode cX2_restore 177 = .ok (.aload_n 0, 1) := dk_42 (dk_at dksX2_restore_7 17 rfl rfl)
theorem dX2_restore_178 : decode cX2_restore 178 = .ok (.getfield 342, 3) := dk_180 1 86 (dk_at dksX2_restore_7 18 rfl rfl)
theorem dX2_restore_181 : decode cX2_restore 181 = .ok (.putfield 218, 3) := dk_181 0 218 (dk_at dksX2_restore_7 21 rfl rfl)
theorem dX2_restore_184 : decode cX2_restore 184 = .ok (.aload_n 0, 1) := dk_42 (dk_at dksX2_restore_8 0 rfl rfl)
theorem dX2_restore_185 : decode cX2_restore 185 = .ok (.getfield 28, 3) := dk_180 0 28 (dk_at dksX2_restore_8 1 rfl rfl)
theorem dX2_restore_188 : decode cX2_restore 188 = .ok (.iconst 0, 1) := dk_3 (dk_at dksX2_restore_8 4 rfl rfl)
theorem dX2_restore_189 : decode cX2_restore 189 = .ok (.iaload, 1) := dk_46 (dk_at dksX2_restore_8 5 rfl rfl)
theorem dX2_restore_190 : decode cX2_restore 190 = .ok (.ireturn, 1) := dk_172 (dk_at dksX2_restore_8 6 rfl rfl)
abbrev cX2_count : ByteArray := prog_11_method_72_code
def yX2_count : MethodName := ⟨RX2, "count", "(I)I"⟩
def dkwX2_count_0 : List UInt8 := [42, 27, 182, 1, 89, 172]
abbrev dktX2_count_0 : List UInt8 := dkwX2_count_0 ++ []
theorem dksX2_count_0 : cX2_count.data.toList.drop 0 = dktX2_count_0 := by decide +kernel
theorem dX2_count_0 : decode cX2_count 0 = .ok (.aload_n 0, 1) := dk_42 (dk_at dksX2_count_0 0 rfl rfl)
theorem dX2_count_1 : decode cX2_count 1 = .ok (.iload_n 1, 1) := dk_27 (dk_at dksX2_count_0 1 rfl rfl)
theorem dX2_count_2 : decode cX2_count 2 = .ok (.invokevirtual 345, 3) := dk_182 1 89 (dk_at dksX2_count_0 2 rfl rfl)
theorem dX2_count_5 : decode cX2_count 5 = .ok (.ireturn, 1) := dk_172 (dk_at dksX2_count_0 5 rfl rfl)
abbrev cX2_countOf : ByteArray := prog_11_method_71_code
def yX2_countOf : MethodName := ⟨RX2, "countOf", "(I)I"⟩
def dkwX2_countOf_3 : List UInt8 := [180, 0, 211, 172, 42, 180, 0, 218, 172, 42, 180, 0, 98, 172, 42, 180, 0, 224, 172, 16, 154, 172]
abbrev dktX2_countOf_3 : List UInt8 := dkwX2_countOf_3 ++ []
def dkwX2_countOf_2 : List UInt8 := [42, 180, 0, 28, 3, 46, 172, 42, 180, 0, 138, 172, 42, 180, 0, 144, 172, 42, 180, 0, 193, 172, 42]
abbrev dktX2_countOf_2 : List UInt8 := dkwX2_countOf_2 ++ dktX2_countOf_3
def dkwX2_countOf_1 : List UInt8 := [170, 0, 0, 0, 0, 0, 89, 0, 0, 0, 0, 0, 0, 0, 7, 0, 0, 0, 47, 0, 0, 0, 54, 0, 0, 0, 59, 0, 0, 0, 64, 0, 0, 0, 69, 0, 0, 0, 74, 0, 0, 0, 79, 0, 0, 0, 84]
abbrev dktX2_countOf_1 : List UInt8 := dkwX2_countOf_1 ++ dktX2_countOf_2
def dkwX2_countOf_0 : List UInt8 := [27]
abbrev dktX2_countOf_0 : List UInt8 := dkwX2_countOf_0 ++ dktX2_countOf_1
theorem dksX2_countOf_0 : cX2_countOf.data.toList.drop 0 = dktX2_countOf_0 := by decide +kernel
theorem dksX2_countOf_1 : cX2_countOf.data.toList.drop 1 = dktX2_countOf_1 := dk_seg dksX2_countOf_0 1 rfl rfl
theorem dksX2_countOf_2 : cX2_countOf.data.toList.drop 48 = dktX2_countOf_2 := dk_seg dksX2_countOf_1 47 rfl rfl
theorem dksX2_countOf_3 : cX2_countOf.data.toList.drop 71 = dktX2_countOf_3 := dk_seg dksX2_countOf_2 23 rfl rfl
theorem dX2_countOf_0 : decode cX2_countOf 0 = .ok (.iload_n 1, 1) := dk_27 (dk_at dksX2_countOf_0 0 rfl rfl)
theorem dX2_countOf_1 : decode cX2_countOf 1 = .ok (.tableswitch 89 0 7 #[47, 54, 59, 64, 69, 74, 79, 84], 47) := by decide +kernel
theorem dX2_countOf_48 : decode cX2_countOf 48 = .ok (.aload_n 0, 1) := dk_42 (dk_at dksX2_countOf_2 0 rfl rfl)
theorem dX2_countOf_49 : decode cX2_countOf 49 = .ok (.getfield 28, 3) := dk_180 0 28 (dk_at dksX2_countOf_2 1 rfl rfl)
theorem dX2_countOf_52 : decode cX2_countOf 52 = .ok (.iconst 0, 1) := dk_3 (dk_at dksX2_countOf_2 4 rfl rfl)
theorem dX2_countOf_53 : decode cX2_countOf 53 = .ok (.iaload, 1) := dk_46 (dk_at dksX2_countOf_2 5 rfl rfl)
theorem dX2_countOf_54 : decode cX2_countOf 54 = .ok (.ireturn, 1) := dk_172 (dk_at dksX2_countOf_2 6 rfl rfl)
theorem dX2_countOf_55 : decode cX2_countOf 55 = .ok (.aload_n 0, 1) := dk_42 (dk_at dksX2_countOf_2 7 rfl rfl)
theorem dX2_countOf_56 : decode cX2_countOf 56 = .ok (.getfield 138, 3) := dk_180 0 138 (dk_at dksX2_countOf_2 8 rfl rfl)
theorem dX2_countOf_59 : decode cX2_countOf 59 = .ok (.ireturn, 1) := dk_172 (dk_at dksX2_countOf_2 11 rfl rfl)
theorem dX2_countOf_60 : decode cX2_countOf 60 = .ok (.aload_n 0, 1) := dk_42 (dk_at dksX2_countOf_2 12 rfl rfl)
theorem dX2_countOf_61 : decode cX2_countOf 61 = .ok (.getfield 144, 3) := dk_180 0 144 (dk_at dksX2_countOf_2 13 rfl rfl)
theorem dX2_countOf_64 : decode cX2_countOf 64 = .ok (.ireturn, 1) := dk_172 (dk_at dksX2_countOf_2 16 rfl rfl)
theorem dX2_countOf_65 : decode cX2_countOf 65 = .ok (.aload_n 0, 1) := dk_42 (dk_at dksX2_countOf_2 17 rfl rfl)
theorem dX2_countOf_66 : decode cX2_countOf 66 = .ok (.getfield 193, 3) := dk_180 0 193 (dk_at dksX2_countOf_2 18 rfl rfl)
theorem dX2_countOf_69 : decode cX2_countOf 69 = .ok (.ireturn, 1) := dk_172 (dk_at dksX2_countOf_2 21 rfl rfl)
theorem dX2_countOf_70 : decode cX2_countOf 70 = .ok (.aload_n 0, 1) := dk_42 (dk_at dksX2_countOf_2 22 rfl rfl)
theorem dX2_countOf_71 : decode cX2_countOf 71 = .ok (.getfield 211, 3) := dk_180 0 211 (dk_at dksX2_countOf_3 0 rfl rfl)
theorem dX2_countOf_74 : decode cX2_countOf 74 = .ok (.ireturn, 1) := dk_172 (dk_at dksX2_countOf_3 3 rfl rfl)
theorem dX2_countOf_75 : decode cX2_countOf 75 = .ok (.aload_n 0, 1) := dk_42 (dk_at dksX2_countOf_3 4 rfl rfl)
theorem dX2_countOf_76 : decode cX2_countOf 76 = .ok (.getfield 218, 3) := dk_180 0 218 (dk_at dksX2_countOf_3 5 rfl rfl)
theorem dX2_countOf_79 : decode cX2_countOf 79 = .ok (.ireturn, 1) := dk_172 (dk_at dksX2_countOf_3 8 rfl rfl)
theorem dX2_countOf_80 : decode cX2_countOf 80 = .ok (.aload_n 0, 1) := dk_42 (dk_at dksX2_countOf_3 9 rfl rfl)
theorem dX2_countOf_81 : decode cX2_countOf 81 = .ok (.getfield 98, 3) := dk_180 0 98 (dk_at dksX2_countOf_3 10 rfl rfl)
theorem dX2_countOf_84 : decode cX2_countOf 84 = .ok (.ireturn, 1) := dk_172 (dk_at dksX2_countOf_3 13 rfl rfl)
theorem dX2_countOf_85 : decode cX2_countOf 85 = .ok (.aload_n 0, 1) := dk_42 (dk_at dksX2_countOf_3 14 rfl rfl)
theorem dX2_countOf_86 : decode cX2_countOf 86 = .ok (.getfield 224, 3) := dk_180 0 224 (dk_at dksX2_countOf_3 15 rfl rfl)
theorem dX2_countOf_89 : decode cX2_countOf 89 = .ok (.ireturn, 1) := dk_172 (dk_at dksX2_countOf_3 18 rfl rfl)
theorem dX2_countOf_90 : decode cX2_countOf 90 = .ok (.bipush (-102), 2) := dk_16 154 (dk_at dksX2_countOf_3 19 rfl rfl)
theorem dX2_countOf_92 : decode cX2_countOf 92 = .ok (.ireturn, 1) := dk_172 (dk_at dksX2_countOf_3 21 rfl rfl)
abbrev cX2_digest : ByteArray := prog_11_method_75_code
def yX2_digest : MethodName := ⟨RX2, "digest", "()J"⟩
def dkwX2_digest_6 : List UInt8 := [132, 1, 1, 167, 255, 237, 42, 180, 1, 94, 173]
abbrev dktX2_digest_6 : List UInt8 := dkwX2_digest_6 ++ []
def dkwX2_digest_5 : List UInt8 := [132, 1, 1, 167, 255, 234, 3, 60, 27, 16, 8, 162, 0, 19, 42, 42, 27, 182, 1, 89, 133, 182, 1, 98]
abbrev dktX2_digest_5 : List UInt8 := dkwX2_digest_5 ++ dktX2_digest_6
def dkwX2_digest_4 : List UInt8 := [182, 1, 98, 3, 60, 27, 42, 180, 0, 98, 162, 0, 20, 42, 42, 180, 0, 7, 27, 46, 133, 182, 1, 98]
abbrev dktX2_digest_4 : List UInt8 := dkwX2_digest_4 ++ dktX2_digest_5
def dkwX2_digest_3 : List UInt8 := [182, 1, 106, 42, 42, 16, 7, 182, 1, 32, 133, 182, 1, 98, 42, 42, 16, 7, 182, 1, 38, 133]
abbrev dktX2_digest_3 : List UInt8 := dkwX2_digest_3 ++ dktX2_digest_4
def dkwX2_digest_2 : List UInt8 := [133, 182, 1, 98, 132, 2, 1, 167, 255, 236, 132, 1, 1, 167, 255, 206, 42, 182, 0, 236, 154, 0, 7, 42]
abbrev dktX2_digest_2 : List UInt8 := dkwX2_digest_2 ++ dktX2_digest_3
def dkwX2_digest_1 : List UInt8 := [160, 0, 34, 42, 27, 133, 182, 1, 98, 3, 61, 28, 16, 7, 162, 0, 20, 42, 42, 27, 28, 182, 0, 248]
abbrev dktX2_digest_1 : List UInt8 := dkwX2_digest_1 ++ dktX2_digest_2
def dkwX2_digest_0 : List UInt8 := [42, 20, 1, 104, 181, 1, 94, 3, 60, 27, 16, 100, 162, 0, 50, 42, 180, 0, 22, 27, 46, 4]
abbrev dktX2_digest_0 : List UInt8 := dkwX2_digest_0 ++ dktX2_digest_1
theorem dksX2_digest_0 : cX2_digest.data.toList.drop 0 = dktX2_digest_0 := by decide +kernel
theorem dksX2_digest_1 : cX2_digest.data.toList.drop 22 = dktX2_digest_1 := dk_seg dksX2_digest_0 22 rfl rfl
theorem dksX2_digest_2 : cX2_digest.data.toList.drop 46 = dktX2_digest_2 := dk_seg dksX2_digest_1 24 rfl rfl
theorem dksX2_digest_3 : cX2_digest.data.toList.drop 70 = dktX2_digest_3 := dk_seg dksX2_digest_2 24 rfl rfl
theorem dksX2_digest_4 : cX2_digest.data.toList.drop 92 = dktX2_digest_4 := dk_seg dksX2_digest_3 22 rfl rfl
theorem dksX2_digest_5 : cX2_digest.data.toList.drop 116 = dktX2_digest_5 := dk_seg dksX2_digest_4 24 rfl rfl
theorem dksX2_digest_6 : cX2_digest.data.toList.drop 140 = dktX2_digest_6 := dk_seg dksX2_digest_5 24 rfl rfl
theorem dX2_digest_0 : decode cX2_digest 0 = .ok (.aload_n 0, 1) := dk_42 (dk_at dksX2_digest_0 0 rfl rfl)
theorem dX2_digest_1 : decode cX2_digest 1 = .ok (.ldc2_w 360, 3) := dk_20 1 104 (dk_at dksX2_digest_0 1 rfl rfl)
theorem dX2_digest_4 : decode cX2_digest 4 = .ok (.putfield 350, 3) := dk_181 1 94 (dk_at dksX2_digest_0 4 rfl rfl)
theorem dX2_digest_7 : decode cX2_digest 7 = .ok (.iconst 0, 1) := dk_3 (dk_at dksX2_digest_0 7 rfl rfl)
theorem dX2_digest_8 : decode cX2_digest 8 = .ok (.istore_n 1, 1) := dk_60 (dk_at dksX2_digest_0 8 rfl rfl)
theorem dX2_digest_9 : decode cX2_digest 9 = .ok (.iload_n 1, 1) := dk_27 (dk_at dksX2_digest_0 9 rfl rfl)
theorem dX2_digest_10 : decode cX2_digest 10 = .ok (.bipush 100, 2) := dk_16 100 (dk_at dksX2_digest_0 10 rfl rfl)
theorem dX2_digest_12 : decode cX2_digest 12 = .ok (.if_icmp .ge 50, 3) := dk_162 0 50 (dk_at dksX2_digest_0 12 rfl rfl)
theorem dX2_digest_15 : decode cX2_digest 15 = .ok (.aload_n 0, 1) := dk_42 (dk_at dksX2_digest_0 15 rfl rfl)
theorem dX2_digest_16 : decode cX2_digest 16 = .ok (.getfield 22, 3) := dk_180 0 22 (dk_at dksX2_digest_0 16 rfl rfl)
theorem dX2_digest_19 : decode cX2_digest 19 = .ok (.iload_n 1, 1) := dk_27 (dk_at dksX2_digest_0 19 rfl rfl)
theorem dX2_digest_20 : decode cX2_digest 20 = .ok (.iaload, 1) := dk_46 (dk_at dksX2_digest_0 20 rfl rfl)
theorem dX2_digest_21 : decode cX2_digest 21 = .ok (.iconst 1, 1) := dk_4 (dk_at dksX2_digest_0 21 rfl rfl)
theorem dX2_digest_22 : decode cX2_digest 22 = .ok (.if_icmp .ne 34, 3) := dk_160 0 34 (dk_at dksX2_digest_1 0 rfl rfl)
theorem dX2_digest_25 : decode cX2_digest 25 = .ok (.aload_n 0, 1) := dk_42 (dk_at dksX2_digest_1 3 rfl rfl)
theorem dX2_digest_26 : decode cX2_digest 26 = .ok (.iload_n 1, 1) := dk_27 (dk_at dksX2_digest_1 4 rfl rfl)
theorem dX2_digest_27 : decode cX2_digest 27 = .ok (.i2l, 1) := dk_133 (dk_at dksX2_digest_1 5 rfl rfl)
theorem dX2_digest_28 : decode cX2_digest 28 = .ok (.invokevirtual 354, 3) := dk_182 1 98 (dk_at dksX2_digest_1 6 rfl rfl)
theorem dX2_digest_31 : decode cX2_digest 31 = .ok (.iconst 0, 1) := dk_3 (dk_at dksX2_digest_1 9 rfl rfl)
theorem dX2_digest_32 : decode cX2_digest 32 = .ok (.istore_n 2, 1) := dk_61 (dk_at dksX2_digest_1 10 rfl rfl)
theorem dX2_digest_33 : decode cX2_digest 33 = .ok (.iload_n 2, 1) := dk_28 (dk_at dksX2_digest_1 11 rfl rfl)
theorem dX2_digest_34 : decode cX2_digest 34 = .ok (.bipush 7, 2) := dk_16 7 (dk_at dksX2_digest_1 12 rfl rfl)
theorem dX2_digest_36 : decode cX2_digest 36 = .ok (.if_icmp .ge 20, 3) := dk_162 0 20 (dk_at dksX2_digest_1 14 rfl rfl)
theorem dX2_digest_39 : decode cX2_digest 39 = .ok (.aload_n 0, 1) := dk_42 (dk_at dksX2_digest_1 17 rfl rfl)
theorem dX2_digest_40 : decode cX2_digest 40 = .ok (.aload_n 0, 1) := dk_42 (dk_at dksX2_digest_1 18 rfl rfl)
theorem dX2_digest_41 : decode cX2_digest 41 = .ok (.iload_n 1, 1) := dk_27 (dk_at dksX2_digest_1 19 rfl rfl)
theorem dX2_digest_42 : decode cX2_digest 42 = .ok (.iload_n 2, 1) := dk_28 (dk_at dksX2_digest_1 20 rfl rfl)
theorem dX2_digest_43 : decode cX2_digest 43 = .ok (.invokevirtual 248, 3) := dk_182 0 248 (dk_at dksX2_digest_1 21 rfl rfl)
theorem dX2_digest_46 : decode cX2_digest 46 = .ok (.i2l, 1) := dk_133 (dk_at dksX2_digest_2 0 rfl rfl)
theorem dX2_digest_47 : decode cX2_digest 47 = .ok (.invokevirtual 354, 3) := dk_182 1 98 (dk_at dksX2_digest_2 1 rfl rfl)
theorem dX2_digest_50 : decode cX2_digest 50 = .ok (.iinc 2 1, 3) := dk_132 2 1 (dk_at dksX2_digest_2 4 rfl rfl)
theorem dX2_digest_53 : decode cX2_digest 53 = .ok (.goto (-20), 3) := dk_167 255 236 (dk_at dksX2_digest_2 7 rfl rfl)
theorem dX2_digest_56 : decode cX2_digest 56 = .ok (.iinc 1 1, 3) := dk_132 1 1 (dk_at dksX2_digest_2 10 rfl rfl)
theorem dX2_digest_59 : decode cX2_digest 59 = .ok (.goto (-50), 3) := dk_167 255 206 (dk_at dksX2_digest_2 13 rfl rfl)
theorem dX2_digest_62 : decode cX2_digest 62 = .ok (.aload_n 0, 1) := dk_42 (dk_at dksX2_digest_2 16 rfl rfl)
theorem dX2_digest_63 : decode cX2_digest 63 = .ok (.invokevirtual 236, 3) := dk_182 0 236 (dk_at dksX2_digest_2 17 rfl rfl)
theorem dX2_digest_66 : decode cX2_digest 66 = .ok (.ifCond .ne 7, 3) := dk_154 0 7 (dk_at dksX2_digest_2 20 rfl rfl)
theorem dX2_digest_69 : decode cX2_digest 69 = .ok (.aload_n 0, 1) := dk_42 (dk_at dksX2_digest_2 23 rfl rfl)
theorem dX2_digest_70 : decode cX2_digest 70 = .ok (.invokevirtual 362, 3) := dk_182 1 106 (dk_at dksX2_digest_3 0 rfl rfl)
theorem dX2_digest_73 : decode cX2_digest 73 = .ok (.aload_n 0, 1) := dk_42 (dk_at dksX2_digest_3 3 rfl rfl)
theorem dX2_digest_74 : decode cX2_digest 74 = .ok (.aload_n 0, 1) := dk_42 (dk_at dksX2_digest_3 4 rfl rfl)
theorem dX2_digest_75 : decode cX2_digest 75 = .ok (.bipush 7, 2) := dk_16 7 (dk_at dksX2_digest_3 5 rfl rfl)
theorem dX2_digest_77 : decode cX2_digest 77 = .ok (.invokevirtual 288, 3) := dk_182 1 32 (dk_at dksX2_digest_3 7 rfl rfl)
theorem dX2_digest_80 : decode cX2_digest 80 = .ok (.i2l, 1) := dk_133 (dk_at dksX2_digest_3 10 rfl rfl)
theorem dX2_digest_81 : decode cX2_digest 81 = .ok (.invokevirtual 354, 3) := dk_182 1 98 (dk_at dksX2_digest_3 11 rfl rfl)
theorem dX2_digest_84 : decode cX2_digest 84 = .ok (.aload_n 0, 1) := dk_42 (dk_at dksX2_digest_3 14 rfl rfl)
theorem dX2_digest_85 : decode cX2_digest 85 = .ok (.aload_n 0, 1) := dk_42 (dk_at dksX2_digest_3 15 rfl rfl)
theorem dX2_digest_86 : decode cX2_digest 86 = .ok (.bipush 7, 2) := dk_16 7 (dk_at dksX2_digest_3 16 rfl rfl)
theorem dX2_digest_88 : decode cX2_digest 88 = .ok (.invokevirtual 294, 3) := dk_182 1 38 (dk_at dksX2_digest_3 18 rfl rfl)
theorem dX2_digest_91 : decode cX2_digest 91 = .ok (.i2l, 1) := dk_133 (dk_at dksX2_digest_3 21 rfl rfl)
theorem dX2_digest_92 : decode cX2_digest 92 = .ok (.invokevirtual 354, 3) := dk_182 1 98 (dk_at dksX2_digest_4 0 rfl rfl)
theorem dX2_digest_95 : decode cX2_digest 95 = .ok (.iconst 0, 1) := dk_3 (dk_at dksX2_digest_4 3 rfl rfl)
theorem dX2_digest_96 : decode cX2_digest 96 = .ok (.istore_n 1, 1) := dk_60 (dk_at dksX2_digest_4 4 rfl rfl)
theorem dX2_digest_97 : decode cX2_digest 97 = .ok (.iload_n 1, 1) := dk_27 (dk_at dksX2_digest_4 5 rfl rfl)
theorem dX2_digest_98 : decode cX2_digest 98 = .ok (.aload_n 0, 1) := dk_42 (dk_at dksX2_digest_4 6 rfl rfl)
theorem dX2_digest_99 : decode cX2_digest 99 = .ok (.getfield 98, 3) := dk_180 0 98 (dk_at dksX2_digest_4 7 rfl rfl)
theorem dX2_digest_102 : decode cX2_digest 102 = .ok (.if_icmp .ge 20, 3) := dk_162 0 20 (dk_at dksX2_digest_4 10 rfl rfl)
theorem dX2_digest_105 : decode cX2_digest 105 = .ok (.aload_n 0, 1) := dk_42 (dk_at dksX2_digest_4 13 rfl rfl)
theorem dX2_digest_106 : decode cX2_digest 106 = .ok (.aload_n 0, 1) := dk_42 (dk_at dksX2_digest_4 14 rfl rfl)
theorem dX2_digest_107 : decode cX2_digest 107 = .ok (.getfield 7, 3) := dk_180 0 7 (dk_at dksX2_digest_4 15 rfl rfl)
theorem dX2_digest_110 : decode cX2_digest 110 = .ok (.iload_n 1, 1) := dk_27 (dk_at dksX2_digest_4 18 rfl rfl)
theorem dX2_digest_111 : decode cX2_digest 111 = .ok (.iaload, 1) := dk_46 (dk_at dksX2_digest_4 19 rfl rfl)
theorem dX2_digest_112 : decode cX2_digest 112 = .ok (.i2l, 1) := dk_133 (dk_at dksX2_digest_4 20 rfl rfl)
theorem dX2_digest_113 : decode cX2_digest 113 = .ok (.invokevirtual 354, 3) := dk_182 1 98 (dk_at dksX2_digest_4 21 rfl rfl)
theorem dX2_digest_116 : decode cX2_digest 116 = .ok (.iinc 1 1, 3) := dk_132 1 1 (dk_at dksX2_digest_5 0 rfl rfl)
theorem dX2_digest_119 : decode cX2_digest 119 = .ok (.goto (-22), 3) := dk_167 255 234 (dk_at dksX2_digest_5 3 rfl rfl)
theorem dX2_digest_122 : decode cX2_digest 122 = .ok (.iconst 0, 1) := dk_3 (dk_at dksX2_digest_5 6 rfl rfl)
theorem dX2_digest_123 : decode cX2_digest 123 = .ok (.istore_n 1, 1) := dk_60 (dk_at dksX2_digest_5 7 rfl rfl)
theorem dX2_digest_124 : decode cX2_digest 124 = .ok (.iload_n 1, 1) := dk_27 (dk_at dksX2_digest_5 8 rfl rfl)
theorem dX2_digest_125 : decode cX2_digest 125 = .ok (.bipush 8, 2) := dk_16 8 (dk_at dksX2_digest_5 9 rfl rfl)
theorem dX2_digest_127 : decode cX2_digest 127 = .ok (.if_icmp .ge 19, 3) := dk_162 0 19 (dk_at dksX2_digest_5 11 rfl rfl)
theorem dX2_digest_130 : decode cX2_digest 130 = .ok (.aload_n 0, 1) := dk_42 (dk_at dksX2_digest_5 14 rfl rfl)
theorem dX2_digest_131 : decode cX2_digest 131 = .ok (.aload_n 0, 1) := dk_42 (dk_at dksX2_digest_5 15 rfl rfl)
theorem dX2_digest_132 : decode cX2_digest 132 = .ok (.iload_n 1, 1) := dk_27 (dk_at dksX2_digest_5 16 rfl rfl)
theorem dX2_digest_133 : decode cX2_digest 133 = .ok (.invokevirtual 345, 3) := dk_182 1 89 (dk_at dksX2_digest_5 17 rfl rfl)
theorem dX2_digest_136 : decode cX2_digest 136 = .ok (.i2l, 1) := dk_133 (dk_at dksX2_digest_5 20 rfl rfl)
theorem dX2_digest_137 : decode cX2_digest 137 = .ok (.invokevirtual 354, 3) := dk_182 1 98 (dk_at dksX2_digest_5 21 rfl rfl)
theorem dX2_digest_140 : decode cX2_digest 140 = .ok (.iinc 1 1, 3) := dk_132 1 1 (dk_at dksX2_digest_6 0 rfl rfl)
theorem dX2_digest_143 : decode cX2_digest 143 = .ok (.goto (-19), 3) := dk_167 255 237 (dk_at dksX2_digest_6 3 rfl rfl)
theorem dX2_digest_146 : decode cX2_digest 146 = .ok (.aload_n 0, 1) := dk_42 (dk_at dksX2_digest_6 6 rfl rfl)
theorem dX2_digest_147 : decode cX2_digest 147 = .ok (.getfield 350, 3) := dk_180 1 94 (dk_at dksX2_digest_6 7 rfl rfl)
theorem dX2_digest_150 : decode cX2_digest 150 = .ok (.lreturn, 1) := dk_173 (dk_at dksX2_digest_6 10 rfl rfl)
abbrev cX2_say : ByteArray := prog_11_method_73_code
def yX2_say : MethodName := ⟨RX2, "say", "(J)V"⟩
def dkwX2_say_0 : List UInt8 := [42, 20, 1, 92, 42, 180, 1, 94, 105, 31, 97, 181, 1, 94, 177]
abbrev dktX2_say_0 : List UInt8 := dkwX2_say_0 ++ []
theorem dksX2_say_0 : cX2_say.data.toList.drop 0 = dktX2_say_0 := by decide +kernel
theorem dX2_say_0 : decode cX2_say 0 = .ok (.aload_n 0, 1) := dk_42 (dk_at dksX2_say_0 0 rfl rfl)
theorem dX2_say_1 : decode cX2_say 1 = .ok (.ldc2_w 348, 3) := dk_20 1 92 (dk_at dksX2_say_0 1 rfl rfl)
theorem dX2_say_4 : decode cX2_say 4 = .ok (.aload_n 0, 1) := dk_42 (dk_at dksX2_say_0 4 rfl rfl)
theorem dX2_say_5 : decode cX2_say 5 = .ok (.getfield 350, 3) := dk_180 1 94 (dk_at dksX2_say_0 5 rfl rfl)
theorem dX2_say_8 : decode cX2_say 8 = .ok (.lmul, 1) := dk_105 (dk_at dksX2_say_0 8 rfl rfl)
theorem dX2_say_9 : decode cX2_say 9 = .ok (.lload_n 1, 1) := dk_31 (dk_at dksX2_say_0 9 rfl rfl)
theorem dX2_say_10 : decode cX2_say 10 = .ok (.ladd, 1) := dk_97 (dk_at dksX2_say_0 10 rfl rfl)
theorem dX2_say_11 : decode cX2_say 11 = .ok (.putfield 350, 3) := dk_181 1 94 (dk_at dksX2_say_0 11 rfl rfl)
theorem dX2_say_14 : decode cX2_say 14 = .ok (.return_, 1) := dk_177 (dk_at dksX2_say_0 14 rfl rfl)
abbrev cX2_sayShelf : ByteArray := prog_11_method_74_code
def yX2_sayShelf : MethodName := ⟨RX2, "sayShelf", "()V"⟩
def dkwX2_sayShelf_3 : List UInt8 := [182, 1, 98, 42, 42, 5, 6, 4, 182, 1, 20, 133, 182, 1, 98, 177]
abbrev dktX2_sayShelf_3 : List UInt8 := dkwX2_sayShelf_3 ++ []
def dkwX2_sayShelf_2 : List UInt8 := [133, 182, 1, 98, 42, 42, 182, 1, 24, 133, 182, 1, 98, 42, 42, 5, 6, 3, 182, 1, 20, 133]
abbrev dktX2_sayShelf_2 : List UInt8 := dkwX2_sayShelf_2 ++ dktX2_sayShelf_3
def dkwX2_sayShelf_1 : List UInt8 := [42, 42, 180, 0, 28, 3, 46, 16, 40, 160, 0, 9, 20, 1, 102, 167, 0, 10, 42, 16, 50, 182, 1, 14]
abbrev dktX2_sayShelf_1 : List UInt8 := dkwX2_sayShelf_1 ++ dktX2_sayShelf_2
def dkwX2_sayShelf_0 : List UInt8 := [3, 60, 27, 16, 7, 162, 0, 19, 42, 42, 27, 182, 1, 8, 133, 182, 1, 98, 132, 1, 1, 167, 255, 237]
abbrev dktX2_sayShelf_0 : List UInt8 := dkwX2_sayShelf_0 ++ dktX2_sayShelf_1
theorem dksX2_sayShelf_0 : cX2_sayShelf.data.toList.drop 0 = dktX2_sayShelf_0 := by decide +kernel
theorem dksX2_sayShelf_1 : cX2_sayShelf.data.toList.drop 24 = dktX2_sayShelf_1 := dk_seg dksX2_sayShelf_0 24 rfl rfl
theorem dksX2_sayShelf_2 : cX2_sayShelf.data.toList.drop 48 = dktX2_sayShelf_2 := dk_seg dksX2_sayShelf_1 24 rfl rfl
theorem dksX2_sayShelf_3 : cX2_sayShelf.data.toList.drop 70 = dktX2_sayShelf_3 := dk_seg dksX2_sayShelf_2 22 rfl rfl
theorem dX2_sayShelf_0 : decode cX2_sayShelf 0 = .ok (.iconst 0, 1) := dk_3 (dk_at dksX2_sayShelf_0 0 rfl rfl)
theorem dX2_sayShelf_1 : decode cX2_sayShelf 1 = .ok (.istore_n 1, 1) := dk_60 (dk_at dksX2_sayShelf_0 1 rfl rfl)
theorem dX2_sayShelf_2 : decode cX2_sayShelf 2 = .ok (.iload_n 1, 1) := dk_27 (dk_at dksX2_sayShelf_0 2 rfl rfl)
theorem dX2_sayShelf_3 : decode cX2_sayShelf 3 = .ok (.bipush 7, 2) := dk_16 7 (dk_at dksX2_sayShelf_0 3 rfl rfl)
theorem dX2_sayShelf_5 : decode cX2_sayShelf 5 = .ok (.if_icmp .ge 19, 3) := dk_162 0 19 (dk_at dksX2_sayShelf_0 5 rfl rfl)
theorem dX2_sayShelf_8 : decode cX2_sayShelf 8 = .ok (.aload_n 0, 1) := dk_42 (dk_at dksX2_sayShelf_0 8 rfl rfl)
theorem dX2_sayShelf_9 : decode cX2_sayShelf 9 = .ok (.aload_n 0, 1) := dk_42 (dk_at dksX2_sayShelf_0 9 rfl rfl)
theorem dX2_sayShelf_10 : decode cX2_sayShelf 10 = .ok (.iload_n 1, 1) := dk_27 (dk_at dksX2_sayShelf_0 10 rfl rfl)
theorem dX2_sayShelf_11 : decode cX2_sayShelf 11 = .ok (.invokevirtual 264, 3) := dk_182 1 8 (dk_at dksX2_sayShelf_0 11 rfl rfl)
theorem dX2_sayShelf_14 : decode cX2_sayShelf 14 = .ok (.i2l, 1) := dk_133 (dk_at dksX2_sayShelf_0 14 rfl rfl)
theorem dX2_sayShelf_15 : decode cX2_sayShelf 15 = .ok (.invokevirtual 354, 3) := dk_182 1 98 (dk_at dksX2_sayShelf_0 15 rfl rfl)
theorem dX2_sayShelf_18 : decode cX2_sayShelf 18 = .ok (.iinc 1 1, 3) := dk_132 1 1 (dk_at dksX2_sayShelf_0 18 rfl rfl)
theorem dX2_sayShelf_21 : decode cX2_sayShelf 21 = .ok (.goto (-19), 3) := dk_167 255 237 (dk_at dksX2_sayShelf_0 21 rfl rfl)
theorem dX2_sayShelf_24 : decode cX2_sayShelf 24 = .ok (.aload_n 0, 1) := dk_42 (dk_at dksX2_sayShelf_1 0 rfl rfl)
theorem dX2_sayShelf_25 : decode cX2_sayShelf 25 = .ok (.aload_n 0, 1) := dk_42 (dk_at dksX2_sayShelf_1 1 rfl rfl)
theorem dX2_sayShelf_26 : decode cX2_sayShelf 26 = .ok (.getfield 28, 3) := dk_180 0 28 (dk_at dksX2_sayShelf_1 2 rfl rfl)
theorem dX2_sayShelf_29 : decode cX2_sayShelf 29 = .ok (.iconst 0, 1) := dk_3 (dk_at dksX2_sayShelf_1 5 rfl rfl)
theorem dX2_sayShelf_30 : decode cX2_sayShelf 30 = .ok (.iaload, 1) := dk_46 (dk_at dksX2_sayShelf_1 6 rfl rfl)
theorem dX2_sayShelf_31 : decode cX2_sayShelf 31 = .ok (.bipush 40, 2) := dk_16 40 (dk_at dksX2_sayShelf_1 7 rfl rfl)
theorem dX2_sayShelf_33 : decode cX2_sayShelf 33 = .ok (.if_icmp .ne 9, 3) := dk_160 0 9 (dk_at dksX2_sayShelf_1 9 rfl rfl)
theorem dX2_sayShelf_36 : decode cX2_sayShelf 36 = .ok (.ldc2_w 358, 3) := dk_20 1 102 (dk_at dksX2_sayShelf_1 12 rfl rfl)
theorem dX2_sayShelf_39 : decode cX2_sayShelf 39 = .ok (.goto 10, 3) := dk_167 0 10 (dk_at dksX2_sayShelf_1 15 rfl rfl)
theorem dX2_sayShelf_42 : decode cX2_sayShelf 42 = .ok (.aload_n 0, 1) := dk_42 (dk_at dksX2_sayShelf_1 18 rfl rfl)
theorem dX2_sayShelf_43 : decode cX2_sayShelf 43 = .ok (.bipush 50, 2) := dk_16 50 (dk_at dksX2_sayShelf_1 19 rfl rfl)
theorem dX2_sayShelf_45 : decode cX2_sayShelf 45 = .ok (.invokevirtual 270, 3) := dk_182 1 14 (dk_at dksX2_sayShelf_1 21 rfl rfl)
theorem dX2_sayShelf_48 : decode cX2_sayShelf 48 = .ok (.i2l, 1) := dk_133 (dk_at dksX2_sayShelf_2 0 rfl rfl)
theorem dX2_sayShelf_49 : decode cX2_sayShelf 49 = .ok (.invokevirtual 354, 3) := dk_182 1 98 (dk_at dksX2_sayShelf_2 1 rfl rfl)
theorem dX2_sayShelf_52 : decode cX2_sayShelf 52 = .ok (.aload_n 0, 1) := dk_42 (dk_at dksX2_sayShelf_2 4 rfl rfl)
theorem dX2_sayShelf_53 : decode cX2_sayShelf 53 = .ok (.aload_n 0, 1) := dk_42 (dk_at dksX2_sayShelf_2 5 rfl rfl)
theorem dX2_sayShelf_54 : decode cX2_sayShelf 54 = .ok (.invokevirtual 280, 3) := dk_182 1 24 (dk_at dksX2_sayShelf_2 6 rfl rfl)
theorem dX2_sayShelf_57 : decode cX2_sayShelf 57 = .ok (.i2l, 1) := dk_133 (dk_at dksX2_sayShelf_2 9 rfl rfl)
theorem dX2_sayShelf_58 : decode cX2_sayShelf 58 = .ok (.invokevirtual 354, 3) := dk_182 1 98 (dk_at dksX2_sayShelf_2 10 rfl rfl)
theorem dX2_sayShelf_61 : decode cX2_sayShelf 61 = .ok (.aload_n 0, 1) := dk_42 (dk_at dksX2_sayShelf_2 13 rfl rfl)
theorem dX2_sayShelf_62 : decode cX2_sayShelf 62 = .ok (.aload_n 0, 1) := dk_42 (dk_at dksX2_sayShelf_2 14 rfl rfl)
theorem dX2_sayShelf_63 : decode cX2_sayShelf 63 = .ok (.iconst 2, 1) := dk_5 (dk_at dksX2_sayShelf_2 15 rfl rfl)
theorem dX2_sayShelf_64 : decode cX2_sayShelf 64 = .ok (.iconst 3, 1) := dk_6 (dk_at dksX2_sayShelf_2 16 rfl rfl)
theorem dX2_sayShelf_65 : decode cX2_sayShelf 65 = .ok (.iconst 0, 1) := dk_3 (dk_at dksX2_sayShelf_2 17 rfl rfl)
theorem dX2_sayShelf_66 : decode cX2_sayShelf 66 = .ok (.invokevirtual 276, 3) := dk_182 1 20 (dk_at dksX2_sayShelf_2 18 rfl rfl)
theorem dX2_sayShelf_69 : decode cX2_sayShelf 69 = .ok (.i2l, 1) := dk_133 (dk_at dksX2_sayShelf_2 21 rfl rfl)
theorem dX2_sayShelf_70 : decode cX2_sayShelf 70 = .ok (.invokevirtual 354, 3) := dk_182 1 98 (dk_at dksX2_sayShelf_3 0 rfl rfl)
theorem dX2_sayShelf_73 : decode cX2_sayShelf 73 = .ok (.aload_n 0, 1) := dk_42 (dk_at dksX2_sayShelf_3 3 rfl rfl)
theorem dX2_sayShelf_74 : decode cX2_sayShelf 74 = .ok (.aload_n 0, 1) := dk_42 (dk_at dksX2_sayShelf_3 4 rfl rfl)
theorem dX2_sayShelf_75 : decode cX2_sayShelf 75 = .ok (.iconst 2, 1) := dk_5 (dk_at dksX2_sayShelf_3 5 rfl rfl)
theorem dX2_sayShelf_76 : decode cX2_sayShelf 76 = .ok (.iconst 3, 1) := dk_6 (dk_at dksX2_sayShelf_3 6 rfl rfl)
theorem dX2_sayShelf_77 : decode cX2_sayShelf 77 = .ok (.iconst 1, 1) := dk_4 (dk_at dksX2_sayShelf_3 7 rfl rfl)
theorem dX2_sayShelf_78 : decode cX2_sayShelf 78 = .ok (.invokevirtual 276, 3) := dk_182 1 20 (dk_at dksX2_sayShelf_3 8 rfl rfl)
theorem dX2_sayShelf_81 : decode cX2_sayShelf 81 = .ok (.i2l, 1) := dk_133 (dk_at dksX2_sayShelf_3 11 rfl rfl)
theorem dX2_sayShelf_82 : decode cX2_sayShelf 82 = .ok (.invokevirtual 354, 3) := dk_182 1 98 (dk_at dksX2_sayShelf_3 12 rfl rfl)
theorem dX2_sayShelf_85 : decode cX2_sayShelf 85 = .ok (.return_, 1) := dk_177 (dk_at dksX2_sayShelf_3 15 rfl rfl)
theorem q87 : (Jvm.Cond.initialized "CreditShelfModel") ∈ lw_all := lw_g (lw_at lw_m1 6 rfl) rfl
theorem q523 : (Jvm.Cond.selects "CreditShelfModel" ({ cls := "java/lang/Object", name := "getClass", desc := "()Ljava/lang/Class;" } : Jvm.MethodName) ({ cls := "java/lang/Object", name := "getClass", desc := "()Ljava/lang/Class;" } : Jvm.MethodName)) ∈ lw_all := lw_g (lw_at lw_m2 202 rfl) rfl
theorem q932 : (Jvm.Cond.instantiable "CreditShelfModel" (50 : Nat)) ∈ lw_all := lw_g (lw_at lw_m4 131 rfl) rfl
theorem q934 : (Jvm.Cond.instanceMethod ({ cls := "CreditShelfModel", name := "<init>", desc := "()V" } : Jvm.MethodName)) ∈ lw_all := lw_g (lw_at lw_m4 133 rfl) rfl
theorem q935 : (Jvm.Cond.code ({ cls := "CreditShelfModel", name := "<init>", desc := "()V" } : Jvm.MethodName) prog_11_method_1_code (1 : Nat) (Option.none : Option Jvm.ClassFile.FieldType)) ∈ lw_all := lw_g (lw_at lw_m4 134 rfl) rfl
theorem q936 : (Jvm.Cond.methodLink "CreditShelfModel" (1 : Nat) ({ cls := "java/lang/Object", name := "<init>", desc := "()V" } : Jvm.MethodName)) ∈ lw_all := lw_g (lw_at lw_m4 135 rfl) rfl
theorem q937 : (Jvm.Cond.fieldLink "CreditShelfModel" (7 : Nat) "CreditShelfModel" "page" "[I") ∈ lw_all := lw_g (lw_at lw_m4 136 rfl) rfl
theorem q938 : (Jvm.Cond.fieldLink "CreditShelfModel" (98 : Nat) "CreditShelfModel" "pageMany" "I") ∈ lw_all := lw_g (lw_at lw_m4 137 rfl) rfl
theorem q939 : (Jvm.Cond.fieldLink "CreditShelfModel" (13 : Nat) "CreditShelfModel" "left" "[I") ∈ lw_all := lw_g (lw_at lw_m4 138 rfl) rfl
theorem q940 : (Jvm.Cond.fieldLink "CreditShelfModel" (16 : Nat) "CreditShelfModel" "right" "[I") ∈ lw_all := lw_g (lw_at lw_m4 139 rfl) rfl
theorem q941 : (Jvm.Cond.fieldLink "CreditShelfModel" (19 : Nat) "CreditShelfModel" "above" "[I") ∈ lw_all := lw_g (lw_at lw_m4 140 rfl) rfl
theorem q942 : (Jvm.Cond.fieldLink "CreditShelfModel" (22 : Nat) "CreditShelfModel" "there" "[I") ∈ lw_all := lw_g (lw_at lw_m4 141 rfl) rfl
theorem q943 : (Jvm.Cond.fieldLink "CreditShelfModel" (25 : Nat) "CreditShelfModel" "root" "[I") ∈ lw_all := lw_g (lw_at lw_m4 142 rfl) rfl
theorem q944 : (Jvm.Cond.fieldLink "CreditShelfModel" (28 : Nat) "CreditShelfModel" "many" "[I") ∈ lw_all := lw_g (lw_at lw_m4 143 rfl) rfl
theorem q945 : (Jvm.Cond.fieldLink "CreditShelfModel" (31 : Nat) "CreditShelfModel" "most" "[I") ∈ lw_all := lw_g (lw_at lw_m4 144 rfl) rfl
theorem q946 : (Jvm.Cond.fieldLink "CreditShelfModel" (171 : Nat) "CreditShelfModel" "builtNow" "I") ∈ lw_all := lw_g (lw_at lw_m4 145 rfl) rfl
theorem q947 : (Jvm.Cond.fieldLink "CreditShelfModel" (34 : Nat) "CreditShelfModel" "built" "[I") ∈ lw_all := lw_g (lw_at lw_m4 146 rfl) rfl
theorem q948 : (Jvm.Cond.fieldLink "CreditShelfModel" (37 : Nat) "CreditShelfModel" "cost" "[I") ∈ lw_all := lw_g (lw_at lw_m4 147 rfl) rfl
theorem q949 : (Jvm.Cond.fieldLink "CreditShelfModel" (40 : Nat) "CreditShelfModel" "kinds" "[I") ∈ lw_all := lw_g (lw_at lw_m4 148 rfl) rfl
theorem q950 : (Jvm.Cond.fieldLink "CreditShelfModel" (43 : Nat) "CreditShelfModel" "values" "[I") ∈ lw_all := lw_g (lw_at lw_m4 149 rfl) rfl
theorem q951 : (Jvm.Cond.fieldLink "CreditShelfModel" (138 : Nat) "CreditShelfModel" "ratioA" "I") ∈ lw_all := lw_g (lw_at lw_m4 150 rfl) rfl
theorem q952 : (Jvm.Cond.fieldLink "CreditShelfModel" (144 : Nat) "CreditShelfModel" "ratioB" "I") ∈ lw_all := lw_g (lw_at lw_m4 151 rfl) rfl
theorem q953 : (Jvm.Cond.fieldLink "CreditShelfModel" (141 : Nat) "CreditShelfModel" "thenA" "I") ∈ lw_all := lw_g (lw_at lw_m4 152 rfl) rfl
theorem q954 : (Jvm.Cond.fieldLink "CreditShelfModel" (147 : Nat) "CreditShelfModel" "thenB" "I") ∈ lw_all := lw_g (lw_at lw_m4 153 rfl) rfl
theorem q955 : (Jvm.Cond.fieldLink "CreditShelfModel" (193 : Nat) "CreditShelfModel" "fee" "I") ∈ lw_all := lw_g (lw_at lw_m4 154 rfl) rfl
theorem q956 : (Jvm.Cond.fieldLink "CreditShelfModel" (184 : Nat) "CreditShelfModel" "credit" "I") ∈ lw_all := lw_g (lw_at lw_m4 155 rfl) rfl
theorem q957 : (Jvm.Cond.fieldLink "CreditShelfModel" (187 : Nat) "CreditShelfModel" "lowest" "I") ∈ lw_all := lw_g (lw_at lw_m4 156 rfl) rfl
theorem q958 : (Jvm.Cond.fieldLink "CreditShelfModel" (46 : Nat) "CreditShelfModel" "log" "[I") ∈ lw_all := lw_g (lw_at lw_m4 157 rfl) rfl
theorem q959 : (Jvm.Cond.fieldLink "CreditShelfModel" (211 : Nat) "CreditShelfModel" "logMany" "I") ∈ lw_all := lw_g (lw_at lw_m4 158 rfl) rfl
theorem q960 : (Jvm.Cond.fieldLink "CreditShelfModel" (224 : Nat) "CreditShelfModel" "shelvesRead" "I") ∈ lw_all := lw_g (lw_at lw_m4 159 rfl) rfl
theorem q961 : (Jvm.Cond.fieldLink "CreditShelfModel" (49 : Nat) "CreditShelfModel" "row" "[I") ∈ lw_all := lw_g (lw_at lw_m4 160 rfl) rfl
theorem q962 : (Jvm.Cond.fieldLink "CreditShelfModel" (52 : Nat) "CreditShelfModel" "spanLow" "[I") ∈ lw_all := lw_g (lw_at lw_m4 161 rfl) rfl
theorem q963 : (Jvm.Cond.fieldLink "CreditShelfModel" (55 : Nat) "CreditShelfModel" "spanHigh" "[I") ∈ lw_all := lw_g (lw_at lw_m4 162 rfl) rfl
theorem q964 : (Jvm.Cond.fieldLink "CreditShelfModel" (58 : Nat) "CreditShelfModel" "spanOn" "[I") ∈ lw_all := lw_g (lw_at lw_m4 163 rfl) rfl
theorem q965 : (Jvm.Cond.fieldLink "CreditShelfModel" (218 : Nat) "CreditShelfModel" "seenMany" "I") ∈ lw_all := lw_g (lw_at lw_m4 164 rfl) rfl
theorem q966 : (Jvm.Cond.fieldLink "CreditShelfModel" (61 : Nat) "CreditShelfModel" "sights" "[I") ∈ lw_all := lw_g (lw_at lw_m4 165 rfl) rfl
theorem q967 : (Jvm.Cond.fieldLink "CreditShelfModel" (299 : Nat) "CreditShelfModel" "seedNow" "I") ∈ lw_all := lw_g (lw_at lw_m4 166 rfl) rfl
theorem q968 : (Jvm.Cond.fieldLink "CreditShelfModel" (88 : Nat) "CreditShelfModel" "keptShelf" "I") ∈ lw_all := lw_g (lw_at lw_m4 167 rfl) rfl
theorem q969 : (Jvm.Cond.fieldLink "CreditShelfModel" (318 : Nat) "CreditShelfModel" "keptRoot" "I") ∈ lw_all := lw_g (lw_at lw_m4 168 rfl) rfl
theorem q970 : (Jvm.Cond.fieldLink "CreditShelfModel" (321 : Nat) "CreditShelfModel" "keptMany" "I") ∈ lw_all := lw_g (lw_at lw_m4 169 rfl) rfl
theorem q971 : (Jvm.Cond.fieldLink "CreditShelfModel" (324 : Nat) "CreditShelfModel" "keptMost" "I") ∈ lw_all := lw_g (lw_at lw_m4 170 rfl) rfl
theorem q972 : (Jvm.Cond.fieldLink "CreditShelfModel" (327 : Nat) "CreditShelfModel" "keptBuilt" "I") ∈ lw_all := lw_g (lw_at lw_m4 171 rfl) rfl
theorem q973 : (Jvm.Cond.fieldLink "CreditShelfModel" (330 : Nat) "CreditShelfModel" "keptCost" "I") ∈ lw_all := lw_g (lw_at lw_m4 172 rfl) rfl
theorem q974 : (Jvm.Cond.fieldLink "CreditShelfModel" (333 : Nat) "CreditShelfModel" "keptCredit" "I") ∈ lw_all := lw_g (lw_at lw_m4 173 rfl) rfl
theorem q975 : (Jvm.Cond.fieldLink "CreditShelfModel" (336 : Nat) "CreditShelfModel" "keptLowest" "I") ∈ lw_all := lw_g (lw_at lw_m4 174 rfl) rfl
theorem q976 : (Jvm.Cond.fieldLink "CreditShelfModel" (339 : Nat) "CreditShelfModel" "keptLogMany" "I") ∈ lw_all := lw_g (lw_at lw_m4 175 rfl) rfl
theorem q977 : (Jvm.Cond.fieldLink "CreditShelfModel" (342 : Nat) "CreditShelfModel" "keptSeen" "I") ∈ lw_all := lw_g (lw_at lw_m4 176 rfl) rfl
theorem q978 : (Jvm.Cond.fieldLink "CreditShelfModel" (64 : Nat) "CreditShelfModel" "keptLeft" "[I") ∈ lw_all := lw_g (lw_at lw_m4 177 rfl) rfl
theorem q979 : (Jvm.Cond.fieldLink "CreditShelfModel" (67 : Nat) "CreditShelfModel" "keptRight" "[I") ∈ lw_all := lw_g (lw_at lw_m4 178 rfl) rfl
theorem q980 : (Jvm.Cond.fieldLink "CreditShelfModel" (70 : Nat) "CreditShelfModel" "keptAbove" "[I") ∈ lw_all := lw_g (lw_at lw_m4 179 rfl) rfl
theorem q981 : (Jvm.Cond.fieldLink "CreditShelfModel" (73 : Nat) "CreditShelfModel" "keptThere" "[I") ∈ lw_all := lw_g (lw_at lw_m4 180 rfl) rfl
theorem q982 : (Jvm.Cond.fieldLink "CreditShelfModel" (76 : Nat) "CreditShelfModel" "keptKinds" "[I") ∈ lw_all := lw_g (lw_at lw_m4 181 rfl) rfl
theorem q983 : (Jvm.Cond.fieldLink "CreditShelfModel" (79 : Nat) "CreditShelfModel" "keptValues" "[I") ∈ lw_all := lw_g (lw_at lw_m4 182 rfl) rfl
theorem q984 : (Jvm.Cond.fieldLink "CreditShelfModel" (82 : Nat) "CreditShelfModel" "keptLog" "[I") ∈ lw_all := lw_g (lw_at lw_m4 183 rfl) rfl
theorem q985 : (Jvm.Cond.fieldLink "CreditShelfModel" (85 : Nat) "CreditShelfModel" "keptSights" "[I") ∈ lw_all := lw_g (lw_at lw_m4 184 rfl) rfl
theorem q986 : (Jvm.Cond.fieldLink "CreditShelfModel" (350 : Nat) "CreditShelfModel" "hash" "J") ∈ lw_all := lw_g (lw_at lw_m4 185 rfl) rfl
theorem q987 : (Jvm.Cond.laysFinal "CreditShelfModel" "CreditShelfModel" "page" "[I") ∈ lw_all := lw_g (lw_at lw_m4 186 rfl) rfl
theorem q988 : (Jvm.Cond.soleField "CreditShelfModel" "page") ∈ lw_all := lw_g (lw_at lw_m4 187 rfl) rfl
theorem q989 : (Jvm.Cond.lays "CreditShelfModel" "CreditShelfModel" "pageMany" "I") ∈ lw_all := lw_g (lw_at lw_m4 188 rfl) rfl
theorem q990 : (Jvm.Cond.soleField "CreditShelfModel" "pageMany") ∈ lw_all := lw_g (lw_at lw_m4 189 rfl) rfl
theorem q991 : (Jvm.Cond.laysFinal "CreditShelfModel" "CreditShelfModel" "left" "[I") ∈ lw_all := lw_g (lw_at lw_m4 190 rfl) rfl
theorem q992 : (Jvm.Cond.soleField "CreditShelfModel" "left") ∈ lw_all := lw_g (lw_at lw_m4 191 rfl) rfl
theorem q993 : (Jvm.Cond.laysFinal "CreditShelfModel" "CreditShelfModel" "right" "[I") ∈ lw_all := lw_g (lw_at lw_m4 192 rfl) rfl
theorem q994 : (Jvm.Cond.soleField "CreditShelfModel" "right") ∈ lw_all := lw_g (lw_at lw_m4 193 rfl) rfl
theorem q995 : (Jvm.Cond.laysFinal "CreditShelfModel" "CreditShelfModel" "above" "[I") ∈ lw_all := lw_g (lw_at lw_m4 194 rfl) rfl
theorem q996 : (Jvm.Cond.soleField "CreditShelfModel" "above") ∈ lw_all := lw_g (lw_at lw_m4 195 rfl) rfl
theorem q997 : (Jvm.Cond.laysFinal "CreditShelfModel" "CreditShelfModel" "there" "[I") ∈ lw_all := lw_g (lw_at lw_m4 196 rfl) rfl
theorem q998 : (Jvm.Cond.soleField "CreditShelfModel" "there") ∈ lw_all := lw_g (lw_at lw_m4 197 rfl) rfl
theorem q999 : (Jvm.Cond.laysFinal "CreditShelfModel" "CreditShelfModel" "root" "[I") ∈ lw_all := lw_g (lw_at lw_m4 198 rfl) rfl
theorem q1000 : (Jvm.Cond.soleField "CreditShelfModel" "root") ∈ lw_all := lw_g (lw_at lw_m4 199 rfl) rfl
theorem q1001 : (Jvm.Cond.laysFinal "CreditShelfModel" "CreditShelfModel" "many" "[I") ∈ lw_all := lw_g (lw_at lw_m4 200 rfl) rfl
theorem q1002 : (Jvm.Cond.soleField "CreditShelfModel" "many") ∈ lw_all := lw_g (lw_at lw_m4 201 rfl) rfl
theorem q1003 : (Jvm.Cond.laysFinal "CreditShelfModel" "CreditShelfModel" "most" "[I") ∈ lw_all := lw_g (lw_at lw_m4 202 rfl) rfl
theorem q1004 : (Jvm.Cond.soleField "CreditShelfModel" "most") ∈ lw_all := lw_g (lw_at lw_m4 203 rfl) rfl
theorem q1005 : (Jvm.Cond.lays "CreditShelfModel" "CreditShelfModel" "builtNow" "I") ∈ lw_all := lw_g (lw_at lw_m4 204 rfl) rfl
theorem q1006 : (Jvm.Cond.soleField "CreditShelfModel" "builtNow") ∈ lw_all := lw_g (lw_at lw_m4 205 rfl) rfl
theorem q1007 : (Jvm.Cond.laysFinal "CreditShelfModel" "CreditShelfModel" "built" "[I") ∈ lw_all := lw_g (lw_at lw_m4 206 rfl) rfl
theorem q1008 : (Jvm.Cond.soleField "CreditShelfModel" "built") ∈ lw_all := lw_g (lw_at lw_m4 207 rfl) rfl
theorem q1009 : (Jvm.Cond.laysFinal "CreditShelfModel" "CreditShelfModel" "cost" "[I") ∈ lw_all := lw_g (lw_at lw_m4 208 rfl) rfl
theorem q1010 : (Jvm.Cond.soleField "CreditShelfModel" "cost") ∈ lw_all := lw_g (lw_at lw_m4 209 rfl) rfl
theorem q1011 : (Jvm.Cond.laysFinal "CreditShelfModel" "CreditShelfModel" "kinds" "[I") ∈ lw_all := lw_g (lw_at lw_m4 210 rfl) rfl
theorem q1012 : (Jvm.Cond.soleField "CreditShelfModel" "kinds") ∈ lw_all := lw_g (lw_at lw_m4 211 rfl) rfl
theorem q1013 : (Jvm.Cond.laysFinal "CreditShelfModel" "CreditShelfModel" "values" "[I") ∈ lw_all := lw_g (lw_at lw_m4 212 rfl) rfl
theorem q1014 : (Jvm.Cond.soleField "CreditShelfModel" "values") ∈ lw_all := lw_g (lw_at lw_m4 213 rfl) rfl
theorem q1015 : (Jvm.Cond.lays "CreditShelfModel" "CreditShelfModel" "ratioA" "I") ∈ lw_all := lw_g (lw_at lw_m4 214 rfl) rfl
theorem q1016 : (Jvm.Cond.soleField "CreditShelfModel" "ratioA") ∈ lw_all := lw_g (lw_at lw_m4 215 rfl) rfl
theorem q1017 : (Jvm.Cond.lays "CreditShelfModel" "CreditShelfModel" "ratioB" "I") ∈ lw_all := lw_g (lw_at lw_m4 216 rfl) rfl
theorem q1018 : (Jvm.Cond.soleField "CreditShelfModel" "ratioB") ∈ lw_all := lw_g (lw_at lw_m4 217 rfl) rfl
theorem q1019 : (Jvm.Cond.lays "CreditShelfModel" "CreditShelfModel" "thenA" "I") ∈ lw_all := lw_g (lw_at lw_m4 218 rfl) rfl
theorem q1020 : (Jvm.Cond.soleField "CreditShelfModel" "thenA") ∈ lw_all := lw_g (lw_at lw_m4 219 rfl) rfl
theorem q1021 : (Jvm.Cond.lays "CreditShelfModel" "CreditShelfModel" "thenB" "I") ∈ lw_all := lw_g (lw_at lw_m4 220 rfl) rfl
theorem q1022 : (Jvm.Cond.soleField "CreditShelfModel" "thenB") ∈ lw_all := lw_g (lw_at lw_m4 221 rfl) rfl
theorem q1023 : (Jvm.Cond.lays "CreditShelfModel" "CreditShelfModel" "fee" "I") ∈ lw_all := lw_g (lw_at lw_m4 222 rfl) rfl
theorem q1024 : (Jvm.Cond.soleField "CreditShelfModel" "fee") ∈ lw_all := lw_g (lw_at lw_m4 223 rfl) rfl
theorem q1025 : (Jvm.Cond.lays "CreditShelfModel" "CreditShelfModel" "credit" "I") ∈ lw_all := lw_g (lw_at lw_m4 224 rfl) rfl
theorem q1026 : (Jvm.Cond.soleField "CreditShelfModel" "credit") ∈ lw_all := lw_g (lw_at lw_m4 225 rfl) rfl
theorem q1027 : (Jvm.Cond.lays "CreditShelfModel" "CreditShelfModel" "lowest" "I") ∈ lw_all := lw_g (lw_at lw_m4 226 rfl) rfl
theorem q1028 : (Jvm.Cond.soleField "CreditShelfModel" "lowest") ∈ lw_all := lw_g (lw_at lw_m4 227 rfl) rfl
theorem q1029 : (Jvm.Cond.laysFinal "CreditShelfModel" "CreditShelfModel" "log" "[I") ∈ lw_all := lw_g (lw_at lw_m4 228 rfl) rfl
theorem q1030 : (Jvm.Cond.soleField "CreditShelfModel" "log") ∈ lw_all := lw_g (lw_at lw_m4 229 rfl) rfl
theorem q1031 : (Jvm.Cond.lays "CreditShelfModel" "CreditShelfModel" "logMany" "I") ∈ lw_all := lw_g (lw_at lw_m4 230 rfl) rfl
theorem q1032 : (Jvm.Cond.soleField "CreditShelfModel" "logMany") ∈ lw_all := lw_g (lw_at lw_m4 231 rfl) rfl
theorem q1033 : (Jvm.Cond.lays "CreditShelfModel" "CreditShelfModel" "shelvesRead" "I") ∈ lw_all := lw_g (lw_at lw_m4 232 rfl) rfl
theorem q1034 : (Jvm.Cond.soleField "CreditShelfModel" "shelvesRead") ∈ lw_all := lw_g (lw_at lw_m4 233 rfl) rfl
theorem q1035 : (Jvm.Cond.laysFinal "CreditShelfModel" "CreditShelfModel" "row" "[I") ∈ lw_all := lw_g (lw_at lw_m4 234 rfl) rfl
theorem q1036 : (Jvm.Cond.soleField "CreditShelfModel" "row") ∈ lw_all := lw_g (lw_at lw_m4 235 rfl) rfl
theorem q1037 : (Jvm.Cond.laysFinal "CreditShelfModel" "CreditShelfModel" "spanLow" "[I") ∈ lw_all := lw_g (lw_at lw_m4 236 rfl) rfl
theorem q1038 : (Jvm.Cond.soleField "CreditShelfModel" "spanLow") ∈ lw_all := lw_g (lw_at lw_m4 237 rfl) rfl
theorem q1039 : (Jvm.Cond.laysFinal "CreditShelfModel" "CreditShelfModel" "spanHigh" "[I") ∈ lw_all := lw_g (lw_at lw_m4 238 rfl) rfl
theorem q1040 : (Jvm.Cond.soleField "CreditShelfModel" "spanHigh") ∈ lw_all := lw_g (lw_at lw_m4 239 rfl) rfl
theorem q1041 : (Jvm.Cond.laysFinal "CreditShelfModel" "CreditShelfModel" "spanOn" "[I") ∈ lw_all := lw_g (lw_at lw_m5 0 rfl) rfl
theorem q1042 : (Jvm.Cond.soleField "CreditShelfModel" "spanOn") ∈ lw_all := lw_g (lw_at lw_m5 1 rfl) rfl
theorem q1043 : (Jvm.Cond.lays "CreditShelfModel" "CreditShelfModel" "seenMany" "I") ∈ lw_all := lw_g (lw_at lw_m5 2 rfl) rfl
theorem q1044 : (Jvm.Cond.soleField "CreditShelfModel" "seenMany") ∈ lw_all := lw_g (lw_at lw_m5 3 rfl) rfl
theorem q1045 : (Jvm.Cond.laysFinal "CreditShelfModel" "CreditShelfModel" "sights" "[I") ∈ lw_all := lw_g (lw_at lw_m5 4 rfl) rfl
theorem q1046 : (Jvm.Cond.soleField "CreditShelfModel" "sights") ∈ lw_all := lw_g (lw_at lw_m5 5 rfl) rfl
theorem q1047 : (Jvm.Cond.lays "CreditShelfModel" "CreditShelfModel" "seedNow" "I") ∈ lw_all := lw_g (lw_at lw_m5 6 rfl) rfl
theorem q1048 : (Jvm.Cond.soleField "CreditShelfModel" "seedNow") ∈ lw_all := lw_g (lw_at lw_m5 7 rfl) rfl
theorem q1049 : (Jvm.Cond.lays "CreditShelfModel" "CreditShelfModel" "keptShelf" "I") ∈ lw_all := lw_g (lw_at lw_m5 8 rfl) rfl
theorem q1050 : (Jvm.Cond.soleField "CreditShelfModel" "keptShelf") ∈ lw_all := lw_g (lw_at lw_m5 9 rfl) rfl
theorem q1051 : (Jvm.Cond.lays "CreditShelfModel" "CreditShelfModel" "keptRoot" "I") ∈ lw_all := lw_g (lw_at lw_m5 10 rfl) rfl
theorem q1052 : (Jvm.Cond.soleField "CreditShelfModel" "keptRoot") ∈ lw_all := lw_g (lw_at lw_m5 11 rfl) rfl
theorem q1053 : (Jvm.Cond.lays "CreditShelfModel" "CreditShelfModel" "keptMany" "I") ∈ lw_all := lw_g (lw_at lw_m5 12 rfl) rfl
theorem q1054 : (Jvm.Cond.soleField "CreditShelfModel" "keptMany") ∈ lw_all := lw_g (lw_at lw_m5 13 rfl) rfl
theorem q1055 : (Jvm.Cond.lays "CreditShelfModel" "CreditShelfModel" "keptMost" "I") ∈ lw_all := lw_g (lw_at lw_m5 14 rfl) rfl
theorem q1056 : (Jvm.Cond.soleField "CreditShelfModel" "keptMost") ∈ lw_all := lw_g (lw_at lw_m5 15 rfl) rfl
theorem q1057 : (Jvm.Cond.lays "CreditShelfModel" "CreditShelfModel" "keptBuilt" "I") ∈ lw_all := lw_g (lw_at lw_m5 16 rfl) rfl
theorem q1058 : (Jvm.Cond.soleField "CreditShelfModel" "keptBuilt") ∈ lw_all := lw_g (lw_at lw_m5 17 rfl) rfl
theorem q1059 : (Jvm.Cond.lays "CreditShelfModel" "CreditShelfModel" "keptCost" "I") ∈ lw_all := lw_g (lw_at lw_m5 18 rfl) rfl
theorem q1060 : (Jvm.Cond.soleField "CreditShelfModel" "keptCost") ∈ lw_all := lw_g (lw_at lw_m5 19 rfl) rfl
theorem q1061 : (Jvm.Cond.lays "CreditShelfModel" "CreditShelfModel" "keptCredit" "I") ∈ lw_all := lw_g (lw_at lw_m5 20 rfl) rfl
theorem q1062 : (Jvm.Cond.soleField "CreditShelfModel" "keptCredit") ∈ lw_all := lw_g (lw_at lw_m5 21 rfl) rfl
theorem q1063 : (Jvm.Cond.lays "CreditShelfModel" "CreditShelfModel" "keptLowest" "I") ∈ lw_all := lw_g (lw_at lw_m5 22 rfl) rfl
theorem q1064 : (Jvm.Cond.soleField "CreditShelfModel" "keptLowest") ∈ lw_all := lw_g (lw_at lw_m5 23 rfl) rfl
theorem q1065 : (Jvm.Cond.lays "CreditShelfModel" "CreditShelfModel" "keptLogMany" "I") ∈ lw_all := lw_g (lw_at lw_m5 24 rfl) rfl
theorem q1066 : (Jvm.Cond.soleField "CreditShelfModel" "keptLogMany") ∈ lw_all := lw_g (lw_at lw_m5 25 rfl) rfl
theorem q1067 : (Jvm.Cond.lays "CreditShelfModel" "CreditShelfModel" "keptSeen" "I") ∈ lw_all := lw_g (lw_at lw_m5 26 rfl) rfl
theorem q1068 : (Jvm.Cond.soleField "CreditShelfModel" "keptSeen") ∈ lw_all := lw_g (lw_at lw_m5 27 rfl) rfl
theorem q1069 : (Jvm.Cond.laysFinal "CreditShelfModel" "CreditShelfModel" "keptLeft" "[I") ∈ lw_all := lw_g (lw_at lw_m5 28 rfl) rfl
theorem q1070 : (Jvm.Cond.soleField "CreditShelfModel" "keptLeft") ∈ lw_all := lw_g (lw_at lw_m5 29 rfl) rfl
theorem q1071 : (Jvm.Cond.laysFinal "CreditShelfModel" "CreditShelfModel" "keptRight" "[I") ∈ lw_all := lw_g (lw_at lw_m5 30 rfl) rfl
theorem q1072 : (Jvm.Cond.soleField "CreditShelfModel" "keptRight") ∈ lw_all := lw_g (lw_at lw_m5 31 rfl) rfl
theorem q1073 : (Jvm.Cond.laysFinal "CreditShelfModel" "CreditShelfModel" "keptAbove" "[I") ∈ lw_all := lw_g (lw_at lw_m5 32 rfl) rfl
theorem q1074 : (Jvm.Cond.soleField "CreditShelfModel" "keptAbove") ∈ lw_all := lw_g (lw_at lw_m5 33 rfl) rfl
theorem q1075 : (Jvm.Cond.laysFinal "CreditShelfModel" "CreditShelfModel" "keptThere" "[I") ∈ lw_all := lw_g (lw_at lw_m5 34 rfl) rfl
theorem q1076 : (Jvm.Cond.soleField "CreditShelfModel" "keptThere") ∈ lw_all := lw_g (lw_at lw_m5 35 rfl) rfl
theorem q1077 : (Jvm.Cond.laysFinal "CreditShelfModel" "CreditShelfModel" "keptKinds" "[I") ∈ lw_all := lw_g (lw_at lw_m5 36 rfl) rfl
theorem q1078 : (Jvm.Cond.soleField "CreditShelfModel" "keptKinds") ∈ lw_all := lw_g (lw_at lw_m5 37 rfl) rfl
theorem q1079 : (Jvm.Cond.laysFinal "CreditShelfModel" "CreditShelfModel" "keptValues" "[I") ∈ lw_all := lw_g (lw_at lw_m5 38 rfl) rfl
theorem q1080 : (Jvm.Cond.soleField "CreditShelfModel" "keptValues") ∈ lw_all := lw_g (lw_at lw_m5 39 rfl) rfl
theorem q1081 : (Jvm.Cond.laysFinal "CreditShelfModel" "CreditShelfModel" "keptLog" "[I") ∈ lw_all := lw_g (lw_at lw_m5 40 rfl) rfl
theorem q1082 : (Jvm.Cond.soleField "CreditShelfModel" "keptLog") ∈ lw_all := lw_g (lw_at lw_m5 41 rfl) rfl
theorem q1083 : (Jvm.Cond.laysFinal "CreditShelfModel" "CreditShelfModel" "keptSights" "[I") ∈ lw_all := lw_g (lw_at lw_m5 42 rfl) rfl
theorem q1084 : (Jvm.Cond.soleField "CreditShelfModel" "keptSights") ∈ lw_all := lw_g (lw_at lw_m5 43 rfl) rfl
theorem q1085 : (Jvm.Cond.lays "CreditShelfModel" "CreditShelfModel" "hash" "J") ∈ lw_all := lw_g (lw_at lw_m5 44 rfl) rfl
theorem q1086 : (Jvm.Cond.soleField "CreditShelfModel" "hash") ∈ lw_all := lw_g (lw_at lw_m5 45 rfl) rfl
theorem q1087 : (Jvm.Cond.superclass "CreditShelfModel" "java/lang/Object") ∈ lw_all := lw_g (lw_at lw_m5 46 rfl) rfl
theorem q1089 : (Jvm.Cond.instanceMethod ({ cls := "CreditShelfModel", name := "letter", desc := "(I)I" } : Jvm.MethodName)) ∈ lw_all := lw_g (lw_at lw_m5 48 rfl) rfl
theorem q1090 : (Jvm.Cond.selects "CreditShelfModel" ({ cls := "CreditShelfModel", name := "letter", desc := "(I)I" } : Jvm.MethodName) ({ cls := "CreditShelfModel", name := "letter", desc := "(I)I" } : Jvm.MethodName)) ∈ lw_all := lw_g (lw_at lw_m5 49 rfl) rfl
theorem q1091 : (Jvm.Cond.code ({ cls := "CreditShelfModel", name := "letter", desc := "(I)I" } : Jvm.MethodName) prog_11_method_4_code (2 : Nat) (Option.some Jvm.ClassFile.FieldType.int)) ∈ lw_all := lw_g (lw_at lw_m5 50 rfl) rfl
theorem q1092 : (Jvm.Cond.constantLong "CreditShelfModel" (92 : Nat) (126 : Int64)) ∈ lw_all := lw_g (lw_at lw_m5 51 rfl) rfl
theorem q1093 : (Jvm.Cond.methodLink "CreditShelfModel" (94 : Nat) ({ cls := "CreditShelfModel", name := "in", desc := "(JJJ)Z" } : Jvm.MethodName)) ∈ lw_all := lw_g (lw_at lw_m5 52 rfl) rfl
theorem q1094 : (Jvm.Cond.static ({ cls := "CreditShelfModel", name := "in", desc := "(JJJ)Z" } : Jvm.MethodName)) ∈ lw_all := lw_g (lw_at lw_m5 53 rfl) rfl
theorem q1095 : (Jvm.Cond.code ({ cls := "CreditShelfModel", name := "in", desc := "(JJJ)Z" } : Jvm.MethodName) prog_11_method_2_code (6 : Nat) (Option.some Jvm.ClassFile.FieldType.boolean)) ∈ lw_all := lw_g (lw_at lw_m5 54 rfl) rfl
theorem q1097 : (Jvm.Cond.instanceMethod ({ cls := "CreditShelfModel", name := "blank", desc := "()I" } : Jvm.MethodName)) ∈ lw_all := lw_g (lw_at lw_m5 56 rfl) rfl
theorem q1098 : (Jvm.Cond.selects "CreditShelfModel" ({ cls := "CreditShelfModel", name := "blank", desc := "()I" } : Jvm.MethodName) ({ cls := "CreditShelfModel", name := "blank", desc := "()I" } : Jvm.MethodName)) ∈ lw_all := lw_g (lw_at lw_m5 57 rfl) rfl
theorem q1099 : (Jvm.Cond.code ({ cls := "CreditShelfModel", name := "blank", desc := "()I" } : Jvm.MethodName) prog_11_method_5_code (2 : Nat) (Option.some Jvm.ClassFile.FieldType.int)) ∈ lw_all := lw_g (lw_at lw_m5 58 rfl) rfl
theorem q1101 : (Jvm.Cond.instanceMethod ({ cls := "CreditShelfModel", name := "fault", desc := "()I" } : Jvm.MethodName)) ∈ lw_all := lw_g (lw_at lw_m5 60 rfl) rfl
theorem q1102 : (Jvm.Cond.selects "CreditShelfModel" ({ cls := "CreditShelfModel", name := "fault", desc := "()I" } : Jvm.MethodName) ({ cls := "CreditShelfModel", name := "fault", desc := "()I" } : Jvm.MethodName)) ∈ lw_all := lw_g (lw_at lw_m5 61 rfl) rfl
theorem q1103 : (Jvm.Cond.code ({ cls := "CreditShelfModel", name := "fault", desc := "()I" } : Jvm.MethodName) prog_11_method_13_code (1 : Nat) (Option.some Jvm.ClassFile.FieldType.int)) ∈ lw_all := lw_g (lw_at lw_m5 62 rfl) rfl
theorem q1104 : (Jvm.Cond.methodLink "CreditShelfModel" (134 : Nat) ({ cls := "CreditShelfModel", name := "faultOf", desc := "()I" } : Jvm.MethodName)) ∈ lw_all := lw_g (lw_at lw_m5 63 rfl) rfl
theorem q1105 : (Jvm.Cond.privateMethod ({ cls := "CreditShelfModel", name := "faultOf", desc := "()I" } : Jvm.MethodName)) ∈ lw_tbl := lw_at lw_m5 64 rfl
theorem q1106 : (Jvm.Cond.instanceMethod ({ cls := "CreditShelfModel", name := "faultOf", desc := "()I" } : Jvm.MethodName)) ∈ lw_all := lw_g (lw_at lw_m5 65 rfl) rfl
theorem q1107 : (Jvm.Cond.code ({ cls := "CreditShelfModel", name := "faultOf", desc := "()I" } : Jvm.MethodName) prog_11_method_12_code (2 : Nat) (Option.some Jvm.ClassFile.FieldType.int)) ∈ lw_all := lw_g (lw_at lw_m5 66 rfl) rfl
theorem q1108 : (Jvm.Cond.methodLink "CreditShelfModel" (131 : Nat) ({ cls := "CreditShelfModel", name := "isGood", desc := "(I)Z" } : Jvm.MethodName)) ∈ lw_all := lw_g (lw_at lw_m5 67 rfl) rfl
theorem q1109 : (Jvm.Cond.privateMethod ({ cls := "CreditShelfModel", name := "isGood", desc := "(I)Z" } : Jvm.MethodName)) ∈ lw_tbl := lw_at lw_m5 68 rfl
theorem q1110 : (Jvm.Cond.instanceMethod ({ cls := "CreditShelfModel", name := "isGood", desc := "(I)Z" } : Jvm.MethodName)) ∈ lw_all := lw_g (lw_at lw_m5 69 rfl) rfl
theorem q1111 : (Jvm.Cond.code ({ cls := "CreditShelfModel", name := "isGood", desc := "(I)Z" } : Jvm.MethodName) prog_11_method_11_code (3 : Nat) (Option.some Jvm.ClassFile.FieldType.boolean)) ∈ lw_all := lw_g (lw_at lw_m5 70 rfl) rfl
theorem q1112 : (Jvm.Cond.constantLong "CreditShelfModel" (118 : Nat) (50 : Int64)) ∈ lw_all := lw_g (lw_at lw_m5 71 rfl) rfl
theorem q1113 : (Jvm.Cond.constantLong "CreditShelfModel" (120 : Nat) (52 : Int64)) ∈ lw_all := lw_g (lw_at lw_m5 72 rfl) rfl
theorem q1114 : (Jvm.Cond.methodLink "CreditShelfModel" (122 : Nat) ({ cls := "CreditShelfModel", name := "isRatio", desc := "(II)Z" } : Jvm.MethodName)) ∈ lw_all := lw_g (lw_at lw_m5 73 rfl) rfl
theorem q1115 : (Jvm.Cond.static ({ cls := "CreditShelfModel", name := "isRatio", desc := "(II)Z" } : Jvm.MethodName)) ∈ lw_all := lw_g (lw_at lw_m5 74 rfl) rfl
theorem q1116 : (Jvm.Cond.code ({ cls := "CreditShelfModel", name := "isRatio", desc := "(II)Z" } : Jvm.MethodName) prog_11_method_7_code (2 : Nat) (Option.some Jvm.ClassFile.FieldType.boolean)) ∈ lw_all := lw_g (lw_at lw_m5 75 rfl) rfl
theorem q1117 : (Jvm.Cond.constantLong "CreditShelfModel" (101 : Nat) (5 : Int64)) ∈ lw_all := lw_g (lw_at lw_m5 76 rfl) rfl
theorem q1118 : (Jvm.Cond.constantLong "CreditShelfModel" (126 : Nat) (49 : Int64)) ∈ lw_all := lw_g (lw_at lw_m5 77 rfl) rfl
theorem q1119 : (Jvm.Cond.constantLong "CreditShelfModel" (112 : Nat) (57 : Int64)) ∈ lw_all := lw_g (lw_at lw_m5 78 rfl) rfl
theorem q1120 : (Jvm.Cond.methodLink "CreditShelfModel" (128 : Nat) ({ cls := "CreditShelfModel", name := "isEntrySign", desc := "(I)Z" } : Jvm.MethodName)) ∈ lw_all := lw_g (lw_at lw_m5 79 rfl) rfl
theorem q1121 : (Jvm.Cond.privateMethod ({ cls := "CreditShelfModel", name := "isEntrySign", desc := "(I)Z" } : Jvm.MethodName)) ∈ lw_tbl := lw_at lw_m5 80 rfl
theorem q1122 : (Jvm.Cond.instanceMethod ({ cls := "CreditShelfModel", name := "isEntrySign", desc := "(I)Z" } : Jvm.MethodName)) ∈ lw_all := lw_g (lw_at lw_m5 81 rfl) rfl
theorem q1123 : (Jvm.Cond.code ({ cls := "CreditShelfModel", name := "isEntrySign", desc := "(I)Z" } : Jvm.MethodName) prog_11_method_10_code (3 : Nat) (Option.some Jvm.ClassFile.FieldType.boolean)) ∈ lw_all := lw_g (lw_at lw_m5 82 rfl) rfl
theorem q1124 : (Jvm.Cond.methodLink "CreditShelfModel" (107 : Nat) ({ cls := "CreditShelfModel", name := "kindBy", desc := "(I)I" } : Jvm.MethodName)) ∈ lw_all := lw_g (lw_at lw_m5 83 rfl) rfl
theorem q1125 : (Jvm.Cond.static ({ cls := "CreditShelfModel", name := "kindBy", desc := "(I)I" } : Jvm.MethodName)) ∈ lw_all := lw_g (lw_at lw_m5 84 rfl) rfl
theorem q1126 : (Jvm.Cond.code ({ cls := "CreditShelfModel", name := "kindBy", desc := "(I)I" } : Jvm.MethodName) prog_11_method_6_code (1 : Nat) (Option.some Jvm.ClassFile.FieldType.int)) ∈ lw_all := lw_g (lw_at lw_m5 85 rfl) rfl
theorem q1127 : (Jvm.Cond.constantLong "CreditShelfModel" (110 : Nat) (48 : Int64)) ∈ lw_all := lw_g (lw_at lw_m5 86 rfl) rfl
theorem q1128 : (Jvm.Cond.methodLink "CreditShelfModel" (114 : Nat) ({ cls := "CreditShelfModel", name := "isTold", desc := "(I)Z" } : Jvm.MethodName)) ∈ lw_all := lw_g (lw_at lw_m5 87 rfl) rfl
theorem q1129 : (Jvm.Cond.privateMethod ({ cls := "CreditShelfModel", name := "isTold", desc := "(I)Z" } : Jvm.MethodName)) ∈ lw_tbl := lw_at lw_m5 88 rfl
theorem q1130 : (Jvm.Cond.instanceMethod ({ cls := "CreditShelfModel", name := "isTold", desc := "(I)Z" } : Jvm.MethodName)) ∈ lw_all := lw_g (lw_at lw_m5 89 rfl) rfl
theorem q1131 : (Jvm.Cond.code ({ cls := "CreditShelfModel", name := "isTold", desc := "(I)Z" } : Jvm.MethodName) prog_11_method_9_code (4 : Nat) (Option.some Jvm.ClassFile.FieldType.boolean)) ∈ lw_all := lw_g (lw_at lw_m5 90 rfl) rfl
theorem q1132 : (Jvm.Cond.methodLink "CreditShelfModel" (103 : Nat) ({ cls := "CreditShelfModel", name := "keyAt", desc := "(I)I" } : Jvm.MethodName)) ∈ lw_all := lw_g (lw_at lw_m5 91 rfl) rfl
theorem q1133 : (Jvm.Cond.privateMethod ({ cls := "CreditShelfModel", name := "keyAt", desc := "(I)I" } : Jvm.MethodName)) ∈ lw_tbl := lw_at lw_m5 92 rfl
theorem q1134 : (Jvm.Cond.instanceMethod ({ cls := "CreditShelfModel", name := "keyAt", desc := "(I)I" } : Jvm.MethodName)) ∈ lw_all := lw_g (lw_at lw_m5 93 rfl) rfl
theorem q1135 : (Jvm.Cond.code ({ cls := "CreditShelfModel", name := "keyAt", desc := "(I)I" } : Jvm.MethodName) prog_11_method_8_code (2 : Nat) (Option.some Jvm.ClassFile.FieldType.int)) ∈ lw_all := lw_g (lw_at lw_m5 94 rfl) rfl
theorem q1137 : (Jvm.Cond.instanceMethod ({ cls := "CreditShelfModel", name := "shelf", desc := "()I" } : Jvm.MethodName)) ∈ lw_all := lw_g (lw_at lw_m5 96 rfl) rfl
theorem q1138 : (Jvm.Cond.selects "CreditShelfModel" ({ cls := "CreditShelfModel", name := "shelf", desc := "()I" } : Jvm.MethodName) ({ cls := "CreditShelfModel", name := "shelf", desc := "()I" } : Jvm.MethodName)) ∈ lw_all := lw_g (lw_at lw_m5 97 rfl) rfl
theorem q1139 : (Jvm.Cond.code ({ cls := "CreditShelfModel", name := "shelf", desc := "()I" } : Jvm.MethodName) prog_11_method_36_code (2 : Nat) (Option.some Jvm.ClassFile.FieldType.int)) ∈ lw_all := lw_g (lw_at lw_m5 98 rfl) rfl
theorem q1140 : (Jvm.Cond.methodLink "CreditShelfModel" (214 : Nat) ({ cls := "CreditShelfModel", name := "empty", desc := "(I)V" } : Jvm.MethodName)) ∈ lw_all := lw_g (lw_at lw_m5 99 rfl) rfl
theorem q1141 : (Jvm.Cond.privateMethod ({ cls := "CreditShelfModel", name := "empty", desc := "(I)V" } : Jvm.MethodName)) ∈ lw_tbl := lw_at lw_m5 100 rfl
theorem q1142 : (Jvm.Cond.instanceMethod ({ cls := "CreditShelfModel", name := "empty", desc := "(I)V" } : Jvm.MethodName)) ∈ lw_all := lw_g (lw_at lw_m5 101 rfl) rfl
theorem q1143 : (Jvm.Cond.code ({ cls := "CreditShelfModel", name := "empty", desc := "(I)V" } : Jvm.MethodName) prog_11_method_16_code (3 : Nat) (Option.none : Option Jvm.ClassFile.FieldType)) ∈ lw_all := lw_g (lw_at lw_m5 102 rfl) rfl
theorem q1144 : (Jvm.Cond.methodLink "CreditShelfModel" (221 : Nat) ({ cls := "CreditShelfModel", name := "putNew", desc := "(III)V" } : Jvm.MethodName)) ∈ lw_all := lw_g (lw_at lw_m5 103 rfl) rfl
theorem q1145 : (Jvm.Cond.privateMethod ({ cls := "CreditShelfModel", name := "putNew", desc := "(III)V" } : Jvm.MethodName)) ∈ lw_tbl := lw_at lw_m5 104 rfl
theorem q1146 : (Jvm.Cond.instanceMethod ({ cls := "CreditShelfModel", name := "putNew", desc := "(III)V" } : Jvm.MethodName)) ∈ lw_all := lw_g (lw_at lw_m5 105 rfl) rfl
theorem q1147 : (Jvm.Cond.code ({ cls := "CreditShelfModel", name := "putNew", desc := "(III)V" } : Jvm.MethodName) prog_11_method_37_code (4 : Nat) (Option.none : Option Jvm.ClassFile.FieldType)) ∈ lw_all := lw_g (lw_at lw_m5 106 rfl) rfl
theorem q1148 : (Jvm.Cond.methodLink "CreditShelfModel" (227 : Nat) ({ cls := "CreditShelfModel", name := "enter", desc := "(II)V" } : Jvm.MethodName)) ∈ lw_all := lw_g (lw_at lw_m5 107 rfl) rfl
theorem q1149 : (Jvm.Cond.privateMethod ({ cls := "CreditShelfModel", name := "enter", desc := "(II)V" } : Jvm.MethodName)) ∈ lw_tbl := lw_at lw_m5 108 rfl
theorem q1150 : (Jvm.Cond.instanceMethod ({ cls := "CreditShelfModel", name := "enter", desc := "(II)V" } : Jvm.MethodName)) ∈ lw_all := lw_g (lw_at lw_m5 109 rfl) rfl
theorem q1151 : (Jvm.Cond.code ({ cls := "CreditShelfModel", name := "enter", desc := "(II)V" } : Jvm.MethodName) prog_11_method_30_code (5 : Nat) (Option.none : Option Jvm.ClassFile.FieldType)) ∈ lw_all := lw_g (lw_at lw_m5 110 rfl) rfl
theorem q1152 : (Jvm.Cond.methodLink "CreditShelfModel" (190 : Nat) ({ cls := "CreditShelfModel", name := "insert", desc := "(II)V" } : Jvm.MethodName)) ∈ lw_all := lw_g (lw_at lw_m5 111 rfl) rfl
theorem q1153 : (Jvm.Cond.privateMethod ({ cls := "CreditShelfModel", name := "insert", desc := "(II)V" } : Jvm.MethodName)) ∈ lw_tbl := lw_at lw_m5 112 rfl
theorem q1154 : (Jvm.Cond.instanceMethod ({ cls := "CreditShelfModel", name := "insert", desc := "(II)V" } : Jvm.MethodName)) ∈ lw_all := lw_g (lw_at lw_m5 113 rfl) rfl
theorem q1155 : (Jvm.Cond.code ({ cls := "CreditShelfModel", name := "insert", desc := "(II)V" } : Jvm.MethodName) prog_11_method_28_code (5 : Nat) (Option.none : Option Jvm.ClassFile.FieldType)) ∈ lw_all := lw_g (lw_at lw_m5 114 rfl) rfl
theorem q1156 : (Jvm.Cond.methodLink "CreditShelfModel" (164 : Nat) ({ cls := "CreditShelfModel", name := "hang", desc := "(III)V" } : Jvm.MethodName)) ∈ lw_all := lw_g (lw_at lw_m5 115 rfl) rfl
theorem q1157 : (Jvm.Cond.privateMethod ({ cls := "CreditShelfModel", name := "hang", desc := "(III)V" } : Jvm.MethodName)) ∈ lw_tbl := lw_at lw_m5 116 rfl
theorem q1158 : (Jvm.Cond.instanceMethod ({ cls := "CreditShelfModel", name := "hang", desc := "(III)V" } : Jvm.MethodName)) ∈ lw_all := lw_g (lw_at lw_m5 117 rfl) rfl
theorem q1159 : (Jvm.Cond.code ({ cls := "CreditShelfModel", name := "hang", desc := "(III)V" } : Jvm.MethodName) prog_11_method_23_code (4 : Nat) (Option.none : Option Jvm.ClassFile.FieldType)) ∈ lw_all := lw_g (lw_at lw_m5 118 rfl) rfl
theorem q1160 : (Jvm.Cond.methodLink "CreditShelfModel" (154 : Nat) ({ cls := "CreditShelfModel", name := "depth", desc := "(II)I" } : Jvm.MethodName)) ∈ lw_all := lw_g (lw_at lw_m5 119 rfl) rfl
theorem q1161 : (Jvm.Cond.privateMethod ({ cls := "CreditShelfModel", name := "depth", desc := "(II)I" } : Jvm.MethodName)) ∈ lw_tbl := lw_at lw_m5 120 rfl
theorem q1162 : (Jvm.Cond.instanceMethod ({ cls := "CreditShelfModel", name := "depth", desc := "(II)I" } : Jvm.MethodName)) ∈ lw_all := lw_g (lw_at lw_m5 121 rfl) rfl
theorem q1163 : (Jvm.Cond.code ({ cls := "CreditShelfModel", name := "depth", desc := "(II)I" } : Jvm.MethodName) prog_11_method_18_code (5 : Nat) (Option.some Jvm.ClassFile.FieldType.int)) ∈ lw_all := lw_g (lw_at lw_m5 122 rfl) rfl
theorem q1164 : (Jvm.Cond.methodLink "CreditShelfModel" (181 : Nat) ({ cls := "CreditShelfModel", name := "pay", desc := "(II)V" } : Jvm.MethodName)) ∈ lw_all := lw_g (lw_at lw_m5 123 rfl) rfl
theorem q1165 : (Jvm.Cond.privateMethod ({ cls := "CreditShelfModel", name := "pay", desc := "(II)V" } : Jvm.MethodName)) ∈ lw_tbl := lw_at lw_m5 124 rfl
theorem q1166 : (Jvm.Cond.instanceMethod ({ cls := "CreditShelfModel", name := "pay", desc := "(II)V" } : Jvm.MethodName)) ∈ lw_all := lw_g (lw_at lw_m5 125 rfl) rfl
theorem q1167 : (Jvm.Cond.code ({ cls := "CreditShelfModel", name := "pay", desc := "(II)V" } : Jvm.MethodName) prog_11_method_27_code (3 : Nat) (Option.none : Option Jvm.ClassFile.FieldType)) ∈ lw_all := lw_g (lw_at lw_m5 126 rfl) rfl
theorem q1168 : (Jvm.Cond.methodLink "CreditShelfModel" (196 : Nat) ({ cls := "CreditShelfModel", name := "limit", desc := "(II)I" } : Jvm.MethodName)) ∈ lw_all := lw_g (lw_at lw_m5 127 rfl) rfl
theorem q1169 : (Jvm.Cond.privateMethod ({ cls := "CreditShelfModel", name := "limit", desc := "(II)I" } : Jvm.MethodName)) ∈ lw_tbl := lw_at lw_m5 128 rfl
theorem q1170 : (Jvm.Cond.instanceMethod ({ cls := "CreditShelfModel", name := "limit", desc := "(II)I" } : Jvm.MethodName)) ∈ lw_all := lw_g (lw_at lw_m5 129 rfl) rfl
theorem q1171 : (Jvm.Cond.code ({ cls := "CreditShelfModel", name := "limit", desc := "(II)I" } : Jvm.MethodName) prog_11_method_22_code (8 : Nat) (Option.some Jvm.ClassFile.FieldType.int)) ∈ lw_all := lw_g (lw_at lw_m5 130 rfl) rfl
theorem q1172 : (Jvm.Cond.methodLink "CreditShelfModel" (158 : Nat) ({ cls := "CreditShelfModel", name := "b", desc := "(I)I" } : Jvm.MethodName)) ∈ lw_all := lw_g (lw_at lw_m5 131 rfl) rfl
theorem q1173 : (Jvm.Cond.privateMethod ({ cls := "CreditShelfModel", name := "b", desc := "(I)I" } : Jvm.MethodName)) ∈ lw_tbl := lw_at lw_m5 132 rfl
theorem q1174 : (Jvm.Cond.instanceMethod ({ cls := "CreditShelfModel", name := "b", desc := "(I)I" } : Jvm.MethodName)) ∈ lw_all := lw_g (lw_at lw_m5 133 rfl) rfl
theorem q1175 : (Jvm.Cond.code ({ cls := "CreditShelfModel", name := "b", desc := "(I)I" } : Jvm.MethodName) prog_11_method_15_code (2 : Nat) (Option.some Jvm.ClassFile.FieldType.int)) ∈ lw_all := lw_g (lw_at lw_m5 134 rfl) rfl
theorem q1176 : (Jvm.Cond.methodLink "CreditShelfModel" (161 : Nat) ({ cls := "CreditShelfModel", name := "a", desc := "(I)I" } : Jvm.MethodName)) ∈ lw_all := lw_g (lw_at lw_m5 135 rfl) rfl
theorem q1177 : (Jvm.Cond.privateMethod ({ cls := "CreditShelfModel", name := "a", desc := "(I)I" } : Jvm.MethodName)) ∈ lw_tbl := lw_at lw_m5 136 rfl
theorem q1178 : (Jvm.Cond.instanceMethod ({ cls := "CreditShelfModel", name := "a", desc := "(I)I" } : Jvm.MethodName)) ∈ lw_all := lw_g (lw_at lw_m5 137 rfl) rfl
theorem q1179 : (Jvm.Cond.code ({ cls := "CreditShelfModel", name := "a", desc := "(I)I" } : Jvm.MethodName) prog_11_method_14_code (2 : Nat) (Option.some Jvm.ClassFile.FieldType.int)) ∈ lw_all := lw_g (lw_at lw_m5 138 rfl) rfl
theorem q1180 : (Jvm.Cond.methodLink "CreditShelfModel" (199 : Nat) ({ cls := "CreditShelfModel", name := "isLopsided", desc := "(II)Z" } : Jvm.MethodName)) ∈ lw_all := lw_g (lw_at lw_m5 139 rfl) rfl
theorem q1181 : (Jvm.Cond.privateMethod ({ cls := "CreditShelfModel", name := "isLopsided", desc := "(II)Z" } : Jvm.MethodName)) ∈ lw_tbl := lw_at lw_m5 140 rfl
theorem q1182 : (Jvm.Cond.instanceMethod ({ cls := "CreditShelfModel", name := "isLopsided", desc := "(II)Z" } : Jvm.MethodName)) ∈ lw_all := lw_g (lw_at lw_m5 141 rfl) rfl
theorem q1183 : (Jvm.Cond.code ({ cls := "CreditShelfModel", name := "isLopsided", desc := "(II)Z" } : Jvm.MethodName) prog_11_method_29_code (4 : Nat) (Option.some Jvm.ClassFile.FieldType.boolean)) ∈ lw_all := lw_g (lw_at lw_m5 142 rfl) rfl
theorem q1184 : (Jvm.Cond.methodLink "CreditShelfModel" (168 : Nat) ({ cls := "CreditShelfModel", name := "size", desc := "(II)I" } : Jvm.MethodName)) ∈ lw_all := lw_g (lw_at lw_m5 143 rfl) rfl
theorem q1185 : (Jvm.Cond.privateMethod ({ cls := "CreditShelfModel", name := "size", desc := "(II)I" } : Jvm.MethodName)) ∈ lw_tbl := lw_at lw_m5 144 rfl
theorem q1186 : (Jvm.Cond.instanceMethod ({ cls := "CreditShelfModel", name := "size", desc := "(II)I" } : Jvm.MethodName)) ∈ lw_all := lw_g (lw_at lw_m5 145 rfl) rfl
theorem q1187 : (Jvm.Cond.code ({ cls := "CreditShelfModel", name := "size", desc := "(II)I" } : Jvm.MethodName) prog_11_method_20_code (5 : Nat) (Option.some Jvm.ClassFile.FieldType.int)) ∈ lw_all := lw_g (lw_at lw_m5 146 rfl) rfl
theorem q1188 : (Jvm.Cond.methodLink "CreditShelfModel" (150 : Nat) ({ cls := "CreditShelfModel", name := "isBelow", desc := "(III)Z" } : Jvm.MethodName)) ∈ lw_all := lw_g (lw_at lw_m5 147 rfl) rfl
theorem q1189 : (Jvm.Cond.privateMethod ({ cls := "CreditShelfModel", name := "isBelow", desc := "(III)Z" } : Jvm.MethodName)) ∈ lw_tbl := lw_at lw_m5 148 rfl
theorem q1190 : (Jvm.Cond.instanceMethod ({ cls := "CreditShelfModel", name := "isBelow", desc := "(III)Z" } : Jvm.MethodName)) ∈ lw_all := lw_g (lw_at lw_m5 149 rfl) rfl
theorem q1191 : (Jvm.Cond.code ({ cls := "CreditShelfModel", name := "isBelow", desc := "(III)Z" } : Jvm.MethodName) prog_11_method_19_code (5 : Nat) (Option.some Jvm.ClassFile.FieldType.boolean)) ∈ lw_all := lw_g (lw_at lw_m5 150 rfl) rfl
theorem q1192 : (Jvm.Cond.methodLink "CreditShelfModel" (202 : Nat) ({ cls := "CreditShelfModel", name := "build", desc := "(II)V" } : Jvm.MethodName)) ∈ lw_all := lw_g (lw_at lw_m5 151 rfl) rfl
theorem q1193 : (Jvm.Cond.privateMethod ({ cls := "CreditShelfModel", name := "build", desc := "(II)V" } : Jvm.MethodName)) ∈ lw_tbl := lw_at lw_m5 152 rfl
theorem q1194 : (Jvm.Cond.instanceMethod ({ cls := "CreditShelfModel", name := "build", desc := "(II)V" } : Jvm.MethodName)) ∈ lw_all := lw_g (lw_at lw_m5 153 rfl) rfl
theorem q1195 : (Jvm.Cond.code ({ cls := "CreditShelfModel", name := "build", desc := "(II)V" } : Jvm.MethodName) prog_11_method_26_code (11 : Nat) (Option.none : Option Jvm.ClassFile.FieldType)) ∈ lw_all := lw_g (lw_at lw_m5 154 rfl) rfl
theorem q1196 : (Jvm.Cond.methodLink "CreditShelfModel" (174 : Nat) ({ cls := "CreditShelfModel", name := "layRow", desc := "(II)V" } : Jvm.MethodName)) ∈ lw_all := lw_g (lw_at lw_m5 155 rfl) rfl
theorem q1197 : (Jvm.Cond.privateMethod ({ cls := "CreditShelfModel", name := "layRow", desc := "(II)V" } : Jvm.MethodName)) ∈ lw_tbl := lw_at lw_m5 156 rfl
theorem q1198 : (Jvm.Cond.instanceMethod ({ cls := "CreditShelfModel", name := "layRow", desc := "(II)V" } : Jvm.MethodName)) ∈ lw_all := lw_g (lw_at lw_m5 157 rfl) rfl
theorem q1199 : (Jvm.Cond.code ({ cls := "CreditShelfModel", name := "layRow", desc := "(II)V" } : Jvm.MethodName) prog_11_method_24_code (5 : Nat) (Option.none : Option Jvm.ClassFile.FieldType)) ∈ lw_all := lw_g (lw_at lw_m5 158 rfl) rfl
theorem q1200 : (Jvm.Cond.methodLink "CreditShelfModel" (178 : Nat) ({ cls := "CreditShelfModel", name := "replace", desc := "(III)V" } : Jvm.MethodName)) ∈ lw_all := lw_g (lw_at lw_m5 159 rfl) rfl
theorem q1201 : (Jvm.Cond.privateMethod ({ cls := "CreditShelfModel", name := "replace", desc := "(III)V" } : Jvm.MethodName)) ∈ lw_tbl := lw_at lw_m5 160 rfl
theorem q1202 : (Jvm.Cond.instanceMethod ({ cls := "CreditShelfModel", name := "replace", desc := "(III)V" } : Jvm.MethodName)) ∈ lw_all := lw_g (lw_at lw_m5 161 rfl) rfl
theorem q1203 : (Jvm.Cond.code ({ cls := "CreditShelfModel", name := "replace", desc := "(III)V" } : Jvm.MethodName) prog_11_method_25_code (5 : Nat) (Option.none : Option Jvm.ClassFile.FieldType)) ∈ lw_all := lw_g (lw_at lw_m5 162 rfl) rfl
theorem q1204 : (Jvm.Cond.methodLink "CreditShelfModel" (230 : Nat) ({ cls := "CreditShelfModel", name := "write", desc := "(I)V" } : Jvm.MethodName)) ∈ lw_all := lw_g (lw_at lw_m5 163 rfl) rfl
theorem q1205 : (Jvm.Cond.privateMethod ({ cls := "CreditShelfModel", name := "write", desc := "(I)V" } : Jvm.MethodName)) ∈ lw_tbl := lw_at lw_m5 164 rfl
theorem q1206 : (Jvm.Cond.instanceMethod ({ cls := "CreditShelfModel", name := "write", desc := "(I)V" } : Jvm.MethodName)) ∈ lw_all := lw_g (lw_at lw_m5 165 rfl) rfl
theorem q1207 : (Jvm.Cond.code ({ cls := "CreditShelfModel", name := "write", desc := "(I)V" } : Jvm.MethodName) prog_11_method_34_code (2 : Nat) (Option.none : Option Jvm.ClassFile.FieldType)) ∈ lw_all := lw_g (lw_at lw_m5 166 rfl) rfl
theorem q1209 : (Jvm.Cond.instanceMethod ({ cls := "CreditShelfModel", name := "entry", desc := "(II)I" } : Jvm.MethodName)) ∈ lw_all := lw_g (lw_at lw_m5 168 rfl) rfl
theorem q1210 : (Jvm.Cond.selects "CreditShelfModel" ({ cls := "CreditShelfModel", name := "entry", desc := "(II)I" } : Jvm.MethodName) ({ cls := "CreditShelfModel", name := "entry", desc := "(II)I" } : Jvm.MethodName)) ∈ lw_all := lw_g (lw_at lw_m5 169 rfl) rfl
theorem q1211 : (Jvm.Cond.code ({ cls := "CreditShelfModel", name := "entry", desc := "(II)I" } : Jvm.MethodName) prog_11_method_42_code (3 : Nat) (Option.some Jvm.ClassFile.FieldType.int)) ∈ lw_all := lw_g (lw_at lw_m5 170 rfl) rfl
theorem q1212 : (Jvm.Cond.methodLink "CreditShelfModel" (245 : Nat) ({ cls := "CreditShelfModel", name := "isThere", desc := "(I)Z" } : Jvm.MethodName)) ∈ lw_all := lw_g (lw_at lw_m5 171 rfl) rfl
theorem q1213 : (Jvm.Cond.privateMethod ({ cls := "CreditShelfModel", name := "isThere", desc := "(I)Z" } : Jvm.MethodName)) ∈ lw_tbl := lw_at lw_m5 172 rfl
theorem q1214 : (Jvm.Cond.instanceMethod ({ cls := "CreditShelfModel", name := "isThere", desc := "(I)Z" } : Jvm.MethodName)) ∈ lw_all := lw_g (lw_at lw_m5 173 rfl) rfl
theorem q1215 : (Jvm.Cond.code ({ cls := "CreditShelfModel", name := "isThere", desc := "(I)Z" } : Jvm.MethodName) prog_11_method_39_code (2 : Nat) (Option.some Jvm.ClassFile.FieldType.boolean)) ∈ lw_all := lw_g (lw_at lw_m5 174 rfl) rfl
theorem q1216 : (Jvm.Cond.methodLink "CreditShelfModel" (236 : Nat) ({ cls := "CreditShelfModel", name := "lacks", desc := "()Z" } : Jvm.MethodName)) ∈ lw_all := lw_g (lw_at lw_m5 175 rfl) rfl
theorem q1217 : (Jvm.Cond.privateMethod ({ cls := "CreditShelfModel", name := "lacks", desc := "()Z" } : Jvm.MethodName)) ∈ lw_tbl := lw_at lw_m5 176 rfl
theorem q1218 : (Jvm.Cond.instanceMethod ({ cls := "CreditShelfModel", name := "lacks", desc := "()Z" } : Jvm.MethodName)) ∈ lw_all := lw_g (lw_at lw_m5 177 rfl) rfl
theorem q1219 : (Jvm.Cond.code ({ cls := "CreditShelfModel", name := "lacks", desc := "()Z" } : Jvm.MethodName) prog_11_method_35_code (1 : Nat) (Option.some Jvm.ClassFile.FieldType.boolean)) ∈ lw_all := lw_g (lw_at lw_m5 178 rfl) rfl
theorem q1220 : (Jvm.Cond.constantLong "CreditShelfModel" (240 : Nat) (99 : Int64)) ∈ lw_all := lw_g (lw_at lw_m5 179 rfl) rfl
theorem q1221 : (Jvm.Cond.methodLink "CreditShelfModel" (248 : Nat) ({ cls := "CreditShelfModel", name := "tellEntry", desc := "(II)I" } : Jvm.MethodName)) ∈ lw_all := lw_g (lw_at lw_m5 180 rfl) rfl
theorem q1222 : (Jvm.Cond.privateMethod ({ cls := "CreditShelfModel", name := "tellEntry", desc := "(II)I" } : Jvm.MethodName)) ∈ lw_tbl := lw_at lw_m5 181 rfl
theorem q1223 : (Jvm.Cond.instanceMethod ({ cls := "CreditShelfModel", name := "tellEntry", desc := "(II)I" } : Jvm.MethodName)) ∈ lw_all := lw_g (lw_at lw_m5 182 rfl) rfl
theorem q1224 : (Jvm.Cond.code ({ cls := "CreditShelfModel", name := "tellEntry", desc := "(II)I" } : Jvm.MethodName) prog_11_method_41_code (3 : Nat) (Option.some Jvm.ClassFile.FieldType.int)) ∈ lw_all := lw_g (lw_at lw_m5 183 rfl) rfl
theorem q1225 : (Jvm.Cond.methodLink "CreditShelfModel" (242 : Nat) ({ cls := "CreditShelfModel", name := "lessMany", desc := "(I)I" } : Jvm.MethodName)) ∈ lw_all := lw_g (lw_at lw_m5 184 rfl) rfl
theorem q1226 : (Jvm.Cond.privateMethod ({ cls := "CreditShelfModel", name := "lessMany", desc := "(I)I" } : Jvm.MethodName)) ∈ lw_tbl := lw_at lw_m5 185 rfl
theorem q1227 : (Jvm.Cond.instanceMethod ({ cls := "CreditShelfModel", name := "lessMany", desc := "(I)I" } : Jvm.MethodName)) ∈ lw_all := lw_g (lw_at lw_m5 186 rfl) rfl
theorem q1228 : (Jvm.Cond.code ({ cls := "CreditShelfModel", name := "lessMany", desc := "(I)I" } : Jvm.MethodName) prog_11_method_40_code (4 : Nat) (Option.some Jvm.ClassFile.FieldType.int)) ∈ lw_all := lw_g (lw_at lw_m5 187 rfl) rfl
theorem q1230 : (Jvm.Cond.instanceMethod ({ cls := "CreditShelfModel", name := "as", desc := "(II)I" } : Jvm.MethodName)) ∈ lw_all := lw_g (lw_at lw_m5 189 rfl) rfl
theorem q1231 : (Jvm.Cond.selects "CreditShelfModel" ({ cls := "CreditShelfModel", name := "as", desc := "(II)I" } : Jvm.MethodName) ({ cls := "CreditShelfModel", name := "as", desc := "(II)I" } : Jvm.MethodName)) ∈ lw_all := lw_g (lw_at lw_m5 190 rfl) rfl
theorem q1232 : (Jvm.Cond.code ({ cls := "CreditShelfModel", name := "as", desc := "(II)I" } : Jvm.MethodName) prog_11_method_43_code (4 : Nat) (Option.some Jvm.ClassFile.FieldType.int)) ∈ lw_all := lw_g (lw_at lw_m5 191 rfl) rfl
theorem q1233 : (Jvm.Cond.constantLong "CreditShelfModel" (251 : Nat) (4 : Int64)) ∈ lw_all := lw_g (lw_at lw_m5 192 rfl) rfl
theorem q1235 : (Jvm.Cond.instanceMethod ({ cls := "CreditShelfModel", name := "at", desc := "(I)I" } : Jvm.MethodName)) ∈ lw_all := lw_g (lw_at lw_m5 194 rfl) rfl
theorem q1236 : (Jvm.Cond.selects "CreditShelfModel" ({ cls := "CreditShelfModel", name := "at", desc := "(I)I" } : Jvm.MethodName) ({ cls := "CreditShelfModel", name := "at", desc := "(I)I" } : Jvm.MethodName)) ∈ lw_all := lw_g (lw_at lw_m5 195 rfl) rfl
theorem q1237 : (Jvm.Cond.code ({ cls := "CreditShelfModel", name := "at", desc := "(I)I" } : Jvm.MethodName) prog_11_method_44_code (3 : Nat) (Option.some Jvm.ClassFile.FieldType.int)) ∈ lw_all := lw_g (lw_at lw_m5 196 rfl) rfl
theorem q1239 : (Jvm.Cond.instanceMethod ({ cls := "CreditShelfModel", name := "next", desc := "(I)I" } : Jvm.MethodName)) ∈ lw_all := lw_g (lw_at lw_m5 198 rfl) rfl
theorem q1240 : (Jvm.Cond.selects "CreditShelfModel" ({ cls := "CreditShelfModel", name := "next", desc := "(I)I" } : Jvm.MethodName) ({ cls := "CreditShelfModel", name := "next", desc := "(I)I" } : Jvm.MethodName)) ∈ lw_all := lw_g (lw_at lw_m5 199 rfl) rfl
theorem q1241 : (Jvm.Cond.code ({ cls := "CreditShelfModel", name := "next", desc := "(I)I" } : Jvm.MethodName) prog_11_method_45_code (3 : Nat) (Option.some Jvm.ClassFile.FieldType.int)) ∈ lw_all := lw_g (lw_at lw_m5 200 rfl) rfl
theorem q1243 : (Jvm.Cond.instanceMethod ({ cls := "CreditShelfModel", name := "put", desc := "(III)I" } : Jvm.MethodName)) ∈ lw_all := lw_g (lw_at lw_m5 202 rfl) rfl
theorem q1244 : (Jvm.Cond.selects "CreditShelfModel" ({ cls := "CreditShelfModel", name := "put", desc := "(III)I" } : Jvm.MethodName) ({ cls := "CreditShelfModel", name := "put", desc := "(III)I" } : Jvm.MethodName)) ∈ lw_all := lw_g (lw_at lw_m5 203 rfl) rfl
theorem q1245 : (Jvm.Cond.code ({ cls := "CreditShelfModel", name := "put", desc := "(III)I" } : Jvm.MethodName) prog_11_method_46_code (4 : Nat) (Option.some Jvm.ClassFile.FieldType.int)) ∈ lw_all := lw_g (lw_at lw_m5 204 rfl) rfl
theorem q1246 : (Jvm.Cond.constantLong "CreditShelfModel" (253 : Nat) (999 : Int64)) ∈ lw_all := lw_g (lw_at lw_m5 205 rfl) rfl
theorem q1248 : (Jvm.Cond.instanceMethod ({ cls := "CreditShelfModel", name := "take", desc := "(I)I" } : Jvm.MethodName)) ∈ lw_all := lw_g (lw_at lw_m5 207 rfl) rfl
theorem q1249 : (Jvm.Cond.selects "CreditShelfModel" ({ cls := "CreditShelfModel", name := "take", desc := "(I)I" } : Jvm.MethodName) ({ cls := "CreditShelfModel", name := "take", desc := "(I)I" } : Jvm.MethodName)) ∈ lw_all := lw_g (lw_at lw_m5 208 rfl) rfl
theorem q1250 : (Jvm.Cond.code ({ cls := "CreditShelfModel", name := "take", desc := "(I)I" } : Jvm.MethodName) prog_11_method_47_code (2 : Nat) (Option.some Jvm.ClassFile.FieldType.int)) ∈ lw_all := lw_g (lw_at lw_m5 209 rfl) rfl
theorem q1251 : (Jvm.Cond.methodLink "CreditShelfModel" (255 : Nat) ({ cls := "CreditShelfModel", name := "takeOut", desc := "(I)V" } : Jvm.MethodName)) ∈ lw_all := lw_g (lw_at lw_m5 210 rfl) rfl
theorem q1252 : (Jvm.Cond.privateMethod ({ cls := "CreditShelfModel", name := "takeOut", desc := "(I)V" } : Jvm.MethodName)) ∈ lw_tbl := lw_at lw_m5 211 rfl
theorem q1253 : (Jvm.Cond.instanceMethod ({ cls := "CreditShelfModel", name := "takeOut", desc := "(I)V" } : Jvm.MethodName)) ∈ lw_all := lw_g (lw_at lw_m5 212 rfl) rfl
theorem q1254 : (Jvm.Cond.code ({ cls := "CreditShelfModel", name := "takeOut", desc := "(I)V" } : Jvm.MethodName) prog_11_method_38_code (2 : Nat) (Option.none : Option Jvm.ClassFile.FieldType)) ∈ lw_all := lw_g (lw_at lw_m5 213 rfl) rfl
theorem q1255 : (Jvm.Cond.methodLink "CreditShelfModel" (233 : Nat) ({ cls := "CreditShelfModel", name := "leave", desc := "(II)V" } : Jvm.MethodName)) ∈ lw_all := lw_g (lw_at lw_m5 214 rfl) rfl
theorem q1256 : (Jvm.Cond.privateMethod ({ cls := "CreditShelfModel", name := "leave", desc := "(II)V" } : Jvm.MethodName)) ∈ lw_tbl := lw_at lw_m5 215 rfl
theorem q1257 : (Jvm.Cond.instanceMethod ({ cls := "CreditShelfModel", name := "leave", desc := "(II)V" } : Jvm.MethodName)) ∈ lw_all := lw_g (lw_at lw_m5 216 rfl) rfl
theorem q1258 : (Jvm.Cond.code ({ cls := "CreditShelfModel", name := "leave", desc := "(II)V" } : Jvm.MethodName) prog_11_method_33_code (3 : Nat) (Option.none : Option Jvm.ClassFile.FieldType)) ∈ lw_all := lw_g (lw_at lw_m5 217 rfl) rfl
theorem q1259 : (Jvm.Cond.methodLink "CreditShelfModel" (208 : Nat) ({ cls := "CreditShelfModel", name := "remove", desc := "(II)V" } : Jvm.MethodName)) ∈ lw_all := lw_g (lw_at lw_m5 218 rfl) rfl
theorem q1260 : (Jvm.Cond.privateMethod ({ cls := "CreditShelfModel", name := "remove", desc := "(II)V" } : Jvm.MethodName)) ∈ lw_tbl := lw_at lw_m5 219 rfl
theorem q1261 : (Jvm.Cond.instanceMethod ({ cls := "CreditShelfModel", name := "remove", desc := "(II)V" } : Jvm.MethodName)) ∈ lw_all := lw_g (lw_at lw_m5 220 rfl) rfl
theorem q1262 : (Jvm.Cond.code ({ cls := "CreditShelfModel", name := "remove", desc := "(II)V" } : Jvm.MethodName) prog_11_method_32_code (4 : Nat) (Option.none : Option Jvm.ClassFile.FieldType)) ∈ lw_all := lw_g (lw_at lw_m5 221 rfl) rfl
theorem q1263 : (Jvm.Cond.methodLink "CreditShelfModel" (205 : Nat) ({ cls := "CreditShelfModel", name := "unhang", desc := "(II)V" } : Jvm.MethodName)) ∈ lw_all := lw_g (lw_at lw_m5 222 rfl) rfl
theorem q1264 : (Jvm.Cond.privateMethod ({ cls := "CreditShelfModel", name := "unhang", desc := "(II)V" } : Jvm.MethodName)) ∈ lw_tbl := lw_at lw_m5 223 rfl
theorem q1265 : (Jvm.Cond.instanceMethod ({ cls := "CreditShelfModel", name := "unhang", desc := "(II)V" } : Jvm.MethodName)) ∈ lw_all := lw_g (lw_at lw_m5 224 rfl) rfl
theorem q1266 : (Jvm.Cond.code ({ cls := "CreditShelfModel", name := "unhang", desc := "(II)V" } : Jvm.MethodName) prog_11_method_31_code (4 : Nat) (Option.none : Option Jvm.ClassFile.FieldType)) ∈ lw_all := lw_g (lw_at lw_m5 225 rfl) rfl
theorem q1268 : (Jvm.Cond.instanceMethod ({ cls := "CreditShelfModel", name := "tell", desc := "(I)I" } : Jvm.MethodName)) ∈ lw_all := lw_g (lw_at lw_m5 227 rfl) rfl
theorem q1269 : (Jvm.Cond.selects "CreditShelfModel" ({ cls := "CreditShelfModel", name := "tell", desc := "(I)I" } : Jvm.MethodName) ({ cls := "CreditShelfModel", name := "tell", desc := "(I)I" } : Jvm.MethodName)) ∈ lw_all := lw_g (lw_at lw_m5 228 rfl) rfl
theorem q1270 : (Jvm.Cond.code ({ cls := "CreditShelfModel", name := "tell", desc := "(I)I" } : Jvm.MethodName) prog_11_method_48_code (3 : Nat) (Option.some Jvm.ClassFile.FieldType.int)) ∈ lw_all := lw_g (lw_at lw_m5 229 rfl) rfl
theorem q1272 : (Jvm.Cond.instanceMethod ({ cls := "CreditShelfModel", name := "flatten", desc := "()I" } : Jvm.MethodName)) ∈ lw_all := lw_g (lw_at lw_m5 231 rfl) rfl
theorem q1273 : (Jvm.Cond.selects "CreditShelfModel" ({ cls := "CreditShelfModel", name := "flatten", desc := "()I" } : Jvm.MethodName) ({ cls := "CreditShelfModel", name := "flatten", desc := "()I" } : Jvm.MethodName)) ∈ lw_all := lw_g (lw_at lw_m5 232 rfl) rfl
theorem q1274 : (Jvm.Cond.code ({ cls := "CreditShelfModel", name := "flatten", desc := "()I" } : Jvm.MethodName) prog_11_method_49_code (1 : Nat) (Option.some Jvm.ClassFile.FieldType.int)) ∈ lw_all := lw_g (lw_at lw_m5 233 rfl) rfl
theorem q1276 : (Jvm.Cond.instanceMethod ({ cls := "CreditShelfModel", name := "ledger", desc := "(I)I" } : Jvm.MethodName)) ∈ lw_all := lw_g (lw_at lw_m5 235 rfl) rfl
theorem q1277 : (Jvm.Cond.selects "CreditShelfModel" ({ cls := "CreditShelfModel", name := "ledger", desc := "(I)I" } : Jvm.MethodName) ({ cls := "CreditShelfModel", name := "ledger", desc := "(I)I" } : Jvm.MethodName)) ∈ lw_all := lw_g (lw_at lw_m5 236 rfl) rfl
theorem q1278 : (Jvm.Cond.code ({ cls := "CreditShelfModel", name := "ledger", desc := "(I)I" } : Jvm.MethodName) prog_11_method_51_code (2 : Nat) (Option.some Jvm.ClassFile.FieldType.int)) ∈ lw_all := lw_g (lw_at lw_m5 237 rfl) rfl
theorem q1279 : (Jvm.Cond.constantLong "CreditShelfModel" (262 : Nat) (6 : Int64)) ∈ lw_all := lw_g (lw_at lw_m5 238 rfl) rfl
theorem q1280 : (Jvm.Cond.methodLink "CreditShelfModel" (264 : Nat) ({ cls := "CreditShelfModel", name := "ledgerOf", desc := "(I)I" } : Jvm.MethodName)) ∈ lw_all := lw_g (lw_at lw_m5 239 rfl) rfl
theorem q1281 : (Jvm.Cond.privateMethod ({ cls := "CreditShelfModel", name := "ledgerOf", desc := "(I)I" } : Jvm.MethodName)) ∈ lw_tbl := lw_at lw_m6 0 rfl
theorem q1282 : (Jvm.Cond.instanceMethod ({ cls := "CreditShelfModel", name := "ledgerOf", desc := "(I)I" } : Jvm.MethodName)) ∈ lw_all := lw_g (lw_at lw_m6 1 rfl) rfl
theorem q1283 : (Jvm.Cond.code ({ cls := "CreditShelfModel", name := "ledgerOf", desc := "(I)I" } : Jvm.MethodName) prog_11_method_50_code (2 : Nat) (Option.some Jvm.ClassFile.FieldType.int)) ∈ lw_all := lw_g (lw_at lw_m6 2 rfl) rfl
theorem q1284 : (Jvm.Cond.methodLink "CreditShelfModel" (258 : Nat) ({ cls := "CreditShelfModel", name := "tall", desc := "(I)I" } : Jvm.MethodName)) ∈ lw_all := lw_g (lw_at lw_m6 3 rfl) rfl
theorem q1285 : (Jvm.Cond.privateMethod ({ cls := "CreditShelfModel", name := "tall", desc := "(I)I" } : Jvm.MethodName)) ∈ lw_tbl := lw_at lw_m6 4 rfl
theorem q1286 : (Jvm.Cond.instanceMethod ({ cls := "CreditShelfModel", name := "tall", desc := "(I)I" } : Jvm.MethodName)) ∈ lw_all := lw_g (lw_at lw_m6 5 rfl) rfl
theorem q1287 : (Jvm.Cond.code ({ cls := "CreditShelfModel", name := "tall", desc := "(I)I" } : Jvm.MethodName) prog_11_method_21_code (5 : Nat) (Option.some Jvm.ClassFile.FieldType.int)) ∈ lw_all := lw_g (lw_at lw_m6 6 rfl) rfl
theorem q1288 : (Jvm.Cond.constant "CreditShelfModel" (261 : Nat) (100000 : Int32)) ∈ lw_all := lw_g (lw_at lw_m6 7 rfl) rfl
theorem q1290 : (Jvm.Cond.instanceMethod ({ cls := "CreditShelfModel", name := "would", desc := "(I)I" } : Jvm.MethodName)) ∈ lw_all := lw_g (lw_at lw_m6 9 rfl) rfl
theorem q1291 : (Jvm.Cond.selects "CreditShelfModel" ({ cls := "CreditShelfModel", name := "would", desc := "(I)I" } : Jvm.MethodName) ({ cls := "CreditShelfModel", name := "would", desc := "(I)I" } : Jvm.MethodName)) ∈ lw_all := lw_g (lw_at lw_m6 10 rfl) rfl
theorem q1292 : (Jvm.Cond.code ({ cls := "CreditShelfModel", name := "would", desc := "(I)I" } : Jvm.MethodName) prog_11_method_53_code (2 : Nat) (Option.some Jvm.ClassFile.FieldType.int)) ∈ lw_all := lw_g (lw_at lw_m6 11 rfl) rfl
theorem q1293 : (Jvm.Cond.methodLink "CreditShelfModel" (270 : Nat) ({ cls := "CreditShelfModel", name := "wouldOf", desc := "(I)I" } : Jvm.MethodName)) ∈ lw_all := lw_g (lw_at lw_m6 12 rfl) rfl
theorem q1294 : (Jvm.Cond.privateMethod ({ cls := "CreditShelfModel", name := "wouldOf", desc := "(I)I" } : Jvm.MethodName)) ∈ lw_tbl := lw_at lw_m6 13 rfl
theorem q1295 : (Jvm.Cond.instanceMethod ({ cls := "CreditShelfModel", name := "wouldOf", desc := "(I)I" } : Jvm.MethodName)) ∈ lw_all := lw_g (lw_at lw_m6 14 rfl) rfl
theorem q1296 : (Jvm.Cond.code ({ cls := "CreditShelfModel", name := "wouldOf", desc := "(I)I" } : Jvm.MethodName) prog_11_method_52_code (2 : Nat) (Option.some Jvm.ClassFile.FieldType.int)) ∈ lw_all := lw_g (lw_at lw_m6 15 rfl) rfl
theorem q1297 : (Jvm.Cond.methodLink "CreditShelfModel" (267 : Nat) ({ cls := "CreditShelfModel", name := "begin", desc := "()V" } : Jvm.MethodName)) ∈ lw_all := lw_g (lw_at lw_m6 16 rfl) rfl
theorem q1298 : (Jvm.Cond.privateMethod ({ cls := "CreditShelfModel", name := "begin", desc := "()V" } : Jvm.MethodName)) ∈ lw_tbl := lw_at lw_m6 17 rfl
theorem q1299 : (Jvm.Cond.instanceMethod ({ cls := "CreditShelfModel", name := "begin", desc := "()V" } : Jvm.MethodName)) ∈ lw_all := lw_g (lw_at lw_m6 18 rfl) rfl
theorem q1300 : (Jvm.Cond.code ({ cls := "CreditShelfModel", name := "begin", desc := "()V" } : Jvm.MethodName) prog_11_method_17_code (2 : Nat) (Option.none : Option Jvm.ClassFile.FieldType)) ∈ lw_all := lw_g (lw_at lw_m6 19 rfl) rfl
theorem q1302 : (Jvm.Cond.instanceMethod ({ cls := "CreditShelfModel", name := "dear", desc := "(I)I" } : Jvm.MethodName)) ∈ lw_all := lw_g (lw_at lw_m6 21 rfl) rfl
theorem q1303 : (Jvm.Cond.selects "CreditShelfModel" ({ cls := "CreditShelfModel", name := "dear", desc := "(I)I" } : Jvm.MethodName) ({ cls := "CreditShelfModel", name := "dear", desc := "(I)I" } : Jvm.MethodName)) ∈ lw_all := lw_g (lw_at lw_m6 22 rfl) rfl
theorem q1304 : (Jvm.Cond.code ({ cls := "CreditShelfModel", name := "dear", desc := "(I)I" } : Jvm.MethodName) prog_11_method_55_code (2 : Nat) (Option.some Jvm.ClassFile.FieldType.int)) ∈ lw_all := lw_g (lw_at lw_m6 23 rfl) rfl
theorem q1305 : (Jvm.Cond.methodLink "CreditShelfModel" (273 : Nat) ({ cls := "CreditShelfModel", name := "dearOf", desc := "(I)I" } : Jvm.MethodName)) ∈ lw_all := lw_g (lw_at lw_m6 24 rfl) rfl
theorem q1306 : (Jvm.Cond.privateMethod ({ cls := "CreditShelfModel", name := "dearOf", desc := "(I)I" } : Jvm.MethodName)) ∈ lw_tbl := lw_at lw_m6 25 rfl
theorem q1307 : (Jvm.Cond.instanceMethod ({ cls := "CreditShelfModel", name := "dearOf", desc := "(I)I" } : Jvm.MethodName)) ∈ lw_all := lw_g (lw_at lw_m6 26 rfl) rfl
theorem q1308 : (Jvm.Cond.code ({ cls := "CreditShelfModel", name := "dearOf", desc := "(I)I" } : Jvm.MethodName) prog_11_method_54_code (6 : Nat) (Option.some Jvm.ClassFile.FieldType.int)) ∈ lw_all := lw_g (lw_at lw_m6 27 rfl) rfl
theorem q1310 : (Jvm.Cond.instanceMethod ({ cls := "CreditShelfModel", name := "replay", desc := "(III)I" } : Jvm.MethodName)) ∈ lw_all := lw_g (lw_at lw_m6 29 rfl) rfl
theorem q1311 : (Jvm.Cond.selects "CreditShelfModel" ({ cls := "CreditShelfModel", name := "replay", desc := "(III)I" } : Jvm.MethodName) ({ cls := "CreditShelfModel", name := "replay", desc := "(III)I" } : Jvm.MethodName)) ∈ lw_all := lw_g (lw_at lw_m6 30 rfl) rfl
theorem q1312 : (Jvm.Cond.code ({ cls := "CreditShelfModel", name := "replay", desc := "(III)I" } : Jvm.MethodName) prog_11_method_57_code (4 : Nat) (Option.some Jvm.ClassFile.FieldType.int)) ∈ lw_all := lw_g (lw_at lw_m6 31 rfl) rfl
theorem q1313 : (Jvm.Cond.methodLink "CreditShelfModel" (276 : Nat) ({ cls := "CreditShelfModel", name := "replayOf", desc := "(III)I" } : Jvm.MethodName)) ∈ lw_all := lw_g (lw_at lw_m6 32 rfl) rfl
theorem q1314 : (Jvm.Cond.privateMethod ({ cls := "CreditShelfModel", name := "replayOf", desc := "(III)I" } : Jvm.MethodName)) ∈ lw_tbl := lw_at lw_m6 33 rfl
theorem q1315 : (Jvm.Cond.instanceMethod ({ cls := "CreditShelfModel", name := "replayOf", desc := "(III)I" } : Jvm.MethodName)) ∈ lw_all := lw_g (lw_at lw_m6 34 rfl) rfl
theorem q1316 : (Jvm.Cond.code ({ cls := "CreditShelfModel", name := "replayOf", desc := "(III)I" } : Jvm.MethodName) prog_11_method_56_code (5 : Nat) (Option.some Jvm.ClassFile.FieldType.int)) ∈ lw_all := lw_g (lw_at lw_m6 35 rfl) rfl
theorem q1318 : (Jvm.Cond.instanceMethod ({ cls := "CreditShelfModel", name := "ahead", desc := "()I" } : Jvm.MethodName)) ∈ lw_all := lw_g (lw_at lw_m6 37 rfl) rfl
theorem q1319 : (Jvm.Cond.selects "CreditShelfModel" ({ cls := "CreditShelfModel", name := "ahead", desc := "()I" } : Jvm.MethodName) ({ cls := "CreditShelfModel", name := "ahead", desc := "()I" } : Jvm.MethodName)) ∈ lw_all := lw_g (lw_at lw_m6 38 rfl) rfl
theorem q1320 : (Jvm.Cond.code ({ cls := "CreditShelfModel", name := "ahead", desc := "()I" } : Jvm.MethodName) prog_11_method_59_code (1 : Nat) (Option.some Jvm.ClassFile.FieldType.int)) ∈ lw_all := lw_g (lw_at lw_m6 39 rfl) rfl
theorem q1321 : (Jvm.Cond.methodLink "CreditShelfModel" (280 : Nat) ({ cls := "CreditShelfModel", name := "aheadOf", desc := "()I" } : Jvm.MethodName)) ∈ lw_all := lw_g (lw_at lw_m6 40 rfl) rfl
theorem q1322 : (Jvm.Cond.privateMethod ({ cls := "CreditShelfModel", name := "aheadOf", desc := "()I" } : Jvm.MethodName)) ∈ lw_tbl := lw_at lw_m6 41 rfl
theorem q1323 : (Jvm.Cond.instanceMethod ({ cls := "CreditShelfModel", name := "aheadOf", desc := "()I" } : Jvm.MethodName)) ∈ lw_all := lw_g (lw_at lw_m6 42 rfl) rfl
theorem q1324 : (Jvm.Cond.code ({ cls := "CreditShelfModel", name := "aheadOf", desc := "()I" } : Jvm.MethodName) prog_11_method_58_code (3 : Nat) (Option.some Jvm.ClassFile.FieldType.int)) ∈ lw_all := lw_g (lw_at lw_m6 43 rfl) rfl
theorem q1326 : (Jvm.Cond.instanceMethod ({ cls := "CreditShelfModel", name := "see", desc := "(IIZ)I" } : Jvm.MethodName)) ∈ lw_all := lw_g (lw_at lw_m6 45 rfl) rfl
theorem q1327 : (Jvm.Cond.selects "CreditShelfModel" ({ cls := "CreditShelfModel", name := "see", desc := "(IIZ)I" } : Jvm.MethodName) ({ cls := "CreditShelfModel", name := "see", desc := "(IIZ)I" } : Jvm.MethodName)) ∈ lw_all := lw_g (lw_at lw_m6 46 rfl) rfl
theorem q1328 : (Jvm.Cond.code ({ cls := "CreditShelfModel", name := "see", desc := "(IIZ)I" } : Jvm.MethodName) prog_11_method_60_code (4 : Nat) (Option.some Jvm.ClassFile.FieldType.int)) ∈ lw_all := lw_g (lw_at lw_m6 47 rfl) rfl
theorem q1329 : (Jvm.Cond.constantLong "CreditShelfModel" (283 : Nat) (3 : Int64)) ∈ lw_all := lw_g (lw_at lw_m6 48 rfl) rfl
theorem q1331 : (Jvm.Cond.instanceMethod ({ cls := "CreditShelfModel", name := "forget", desc := "()I" } : Jvm.MethodName)) ∈ lw_all := lw_g (lw_at lw_m6 50 rfl) rfl
theorem q1332 : (Jvm.Cond.selects "CreditShelfModel" ({ cls := "CreditShelfModel", name := "forget", desc := "()I" } : Jvm.MethodName) ({ cls := "CreditShelfModel", name := "forget", desc := "()I" } : Jvm.MethodName)) ∈ lw_all := lw_g (lw_at lw_m6 51 rfl) rfl
theorem q1333 : (Jvm.Cond.code ({ cls := "CreditShelfModel", name := "forget", desc := "()I" } : Jvm.MethodName) prog_11_method_61_code (2 : Nat) (Option.some Jvm.ClassFile.FieldType.int)) ∈ lw_all := lw_g (lw_at lw_m6 52 rfl) rfl
theorem q1335 : (Jvm.Cond.instanceMethod ({ cls := "CreditShelfModel", name := "sorts", desc := "(II)I" } : Jvm.MethodName)) ∈ lw_all := lw_g (lw_at lw_m6 54 rfl) rfl
theorem q1336 : (Jvm.Cond.selects "CreditShelfModel" ({ cls := "CreditShelfModel", name := "sorts", desc := "(II)I" } : Jvm.MethodName) ({ cls := "CreditShelfModel", name := "sorts", desc := "(II)I" } : Jvm.MethodName)) ∈ lw_all := lw_g (lw_at lw_m6 55 rfl) rfl
theorem q1337 : (Jvm.Cond.code ({ cls := "CreditShelfModel", name := "sorts", desc := "(II)I" } : Jvm.MethodName) prog_11_method_66_code (3 : Nat) (Option.some Jvm.ClassFile.FieldType.int)) ∈ lw_all := lw_g (lw_at lw_m6 56 rfl) rfl
theorem q1338 : (Jvm.Cond.methodLink "CreditShelfModel" (288 : Nat) ({ cls := "CreditShelfModel", name := "sortsOf", desc := "(I)I" } : Jvm.MethodName)) ∈ lw_all := lw_g (lw_at lw_m6 57 rfl) rfl
theorem q1339 : (Jvm.Cond.privateMethod ({ cls := "CreditShelfModel", name := "sortsOf", desc := "(I)I" } : Jvm.MethodName)) ∈ lw_tbl := lw_at lw_m6 58 rfl
theorem q1340 : (Jvm.Cond.instanceMethod ({ cls := "CreditShelfModel", name := "sortsOf", desc := "(I)I" } : Jvm.MethodName)) ∈ lw_all := lw_g (lw_at lw_m6 59 rfl) rfl
theorem q1341 : (Jvm.Cond.code ({ cls := "CreditShelfModel", name := "sortsOf", desc := "(I)I" } : Jvm.MethodName) prog_11_method_63_code (5 : Nat) (Option.some Jvm.ClassFile.FieldType.int)) ∈ lw_all := lw_g (lw_at lw_m6 60 rfl) rfl
theorem q1342 : (Jvm.Cond.methodLink "CreditShelfModel" (285 : Nat) ({ cls := "CreditShelfModel", name := "sortsBy", desc := "(I)I" } : Jvm.MethodName)) ∈ lw_all := lw_g (lw_at lw_m6 61 rfl) rfl
theorem q1343 : (Jvm.Cond.static ({ cls := "CreditShelfModel", name := "sortsBy", desc := "(I)I" } : Jvm.MethodName)) ∈ lw_all := lw_g (lw_at lw_m6 62 rfl) rfl
theorem q1344 : (Jvm.Cond.code ({ cls := "CreditShelfModel", name := "sortsBy", desc := "(I)I" } : Jvm.MethodName) prog_11_method_62_code (1 : Nat) (Option.some Jvm.ClassFile.FieldType.int)) ∈ lw_all := lw_g (lw_at lw_m6 63 rfl) rfl
theorem q1345 : (Jvm.Cond.methodLink "CreditShelfModel" (294 : Nat) ({ cls := "CreditShelfModel", name := "askOf", desc := "(I)I" } : Jvm.MethodName)) ∈ lw_all := lw_g (lw_at lw_m6 64 rfl) rfl
theorem q1346 : (Jvm.Cond.privateMethod ({ cls := "CreditShelfModel", name := "askOf", desc := "(I)I" } : Jvm.MethodName)) ∈ lw_tbl := lw_at lw_m6 65 rfl
theorem q1347 : (Jvm.Cond.instanceMethod ({ cls := "CreditShelfModel", name := "askOf", desc := "(I)I" } : Jvm.MethodName)) ∈ lw_all := lw_g (lw_at lw_m6 66 rfl) rfl
theorem q1348 : (Jvm.Cond.code ({ cls := "CreditShelfModel", name := "askOf", desc := "(I)I" } : Jvm.MethodName) prog_11_method_65_code (9 : Nat) (Option.some Jvm.ClassFile.FieldType.int)) ∈ lw_all := lw_g (lw_at lw_m6 67 rfl) rfl
theorem q1349 : (Jvm.Cond.methodLink "CreditShelfModel" (291 : Nat) ({ cls := "CreditShelfModel", name := "ones", desc := "(I)I" } : Jvm.MethodName)) ∈ lw_all := lw_g (lw_at lw_m6 68 rfl) rfl
theorem q1350 : (Jvm.Cond.static ({ cls := "CreditShelfModel", name := "ones", desc := "(I)I" } : Jvm.MethodName)) ∈ lw_all := lw_g (lw_at lw_m6 69 rfl) rfl
theorem q1351 : (Jvm.Cond.code ({ cls := "CreditShelfModel", name := "ones", desc := "(I)I" } : Jvm.MethodName) prog_11_method_64_code (3 : Nat) (Option.some Jvm.ClassFile.FieldType.int)) ∈ lw_all := lw_g (lw_at lw_m6 70 rfl) rfl
theorem q1353 : (Jvm.Cond.instanceMethod ({ cls := "CreditShelfModel", name := "drawn", desc := "(III)I" } : Jvm.MethodName)) ∈ lw_all := lw_g (lw_at lw_m6 72 rfl) rfl
theorem q1354 : (Jvm.Cond.selects "CreditShelfModel" ({ cls := "CreditShelfModel", name := "drawn", desc := "(III)I" } : Jvm.MethodName) ({ cls := "CreditShelfModel", name := "drawn", desc := "(III)I" } : Jvm.MethodName)) ∈ lw_all := lw_g (lw_at lw_m6 73 rfl) rfl
theorem q1355 : (Jvm.Cond.code ({ cls := "CreditShelfModel", name := "drawn", desc := "(III)I" } : Jvm.MethodName) prog_11_method_68_code (6 : Nat) (Option.some Jvm.ClassFile.FieldType.int)) ∈ lw_all := lw_g (lw_at lw_m6 74 rfl) rfl
theorem q1356 : (Jvm.Cond.constantLong "CreditShelfModel" (307 : Nat) (60 : Int64)) ∈ lw_all := lw_g (lw_at lw_m6 75 rfl) rfl
theorem q1357 : (Jvm.Cond.constantLong "CreditShelfModel" (309 : Nat) (2 : Int64)) ∈ lw_all := lw_g (lw_at lw_m6 76 rfl) rfl
theorem q1358 : (Jvm.Cond.methodLink "CreditShelfModel" (311 : Nat) ({ cls := "CreditShelfModel", name := "draw", desc := "(I)I" } : Jvm.MethodName)) ∈ lw_all := lw_g (lw_at lw_m6 77 rfl) rfl
theorem q1359 : (Jvm.Cond.privateMethod ({ cls := "CreditShelfModel", name := "draw", desc := "(I)I" } : Jvm.MethodName)) ∈ lw_tbl := lw_at lw_m6 78 rfl
theorem q1360 : (Jvm.Cond.instanceMethod ({ cls := "CreditShelfModel", name := "draw", desc := "(I)I" } : Jvm.MethodName)) ∈ lw_all := lw_g (lw_at lw_m6 79 rfl) rfl
theorem q1361 : (Jvm.Cond.code ({ cls := "CreditShelfModel", name := "draw", desc := "(I)I" } : Jvm.MethodName) prog_11_method_67_code (2 : Nat) (Option.some Jvm.ClassFile.FieldType.int)) ∈ lw_all := lw_g (lw_at lw_m6 80 rfl) rfl
theorem q1362 : (Jvm.Cond.constantLong "CreditShelfModel" (297 : Nat) (1103515245 : Int64)) ∈ lw_all := lw_g (lw_at lw_m6 81 rfl) rfl
theorem q1363 : (Jvm.Cond.constantLong "CreditShelfModel" (302 : Nat) (12345 : Int64)) ∈ lw_all := lw_g (lw_at lw_m6 82 rfl) rfl
theorem q1364 : (Jvm.Cond.constantLong "CreditShelfModel" (304 : Nat) (2147483647 : Int64)) ∈ lw_all := lw_g (lw_at lw_m6 83 rfl) rfl
theorem q1365 : (Jvm.Cond.constant "CreditShelfModel" (306 : Nat) (65536 : Int32)) ∈ lw_all := lw_g (lw_at lw_m6 84 rfl) rfl
theorem q1367 : (Jvm.Cond.instanceMethod ({ cls := "CreditShelfModel", name := "image", desc := "()I" } : Jvm.MethodName)) ∈ lw_all := lw_g (lw_at lw_m6 86 rfl) rfl
theorem q1368 : (Jvm.Cond.selects "CreditShelfModel" ({ cls := "CreditShelfModel", name := "image", desc := "()I" } : Jvm.MethodName) ({ cls := "CreditShelfModel", name := "image", desc := "()I" } : Jvm.MethodName)) ∈ lw_all := lw_g (lw_at lw_m6 87 rfl) rfl
theorem q1369 : (Jvm.Cond.code ({ cls := "CreditShelfModel", name := "image", desc := "()I" } : Jvm.MethodName) prog_11_method_69_code (1 : Nat) (Option.some Jvm.ClassFile.FieldType.int)) ∈ lw_all := lw_g (lw_at lw_m6 88 rfl) rfl
theorem q1370 : (Jvm.Cond.methodLink "CreditShelfModel" (314 : Nat) ({ cls := "CreditShelfModel", name := "copy", desc := "([I[I)V" } : Jvm.MethodName)) ∈ lw_all := lw_g (lw_at lw_m6 89 rfl) rfl
theorem q1371 : (Jvm.Cond.static ({ cls := "CreditShelfModel", name := "copy", desc := "([I[I)V" } : Jvm.MethodName)) ∈ lw_all := lw_g (lw_at lw_m6 90 rfl) rfl
theorem q1372 : (Jvm.Cond.code ({ cls := "CreditShelfModel", name := "copy", desc := "([I[I)V" } : Jvm.MethodName) prog_11_method_3_code (3 : Nat) (Option.none : Option Jvm.ClassFile.FieldType)) ∈ lw_all := lw_g (lw_at lw_m6 91 rfl) rfl
theorem q1374 : (Jvm.Cond.instanceMethod ({ cls := "CreditShelfModel", name := "restore", desc := "()I" } : Jvm.MethodName)) ∈ lw_all := lw_g (lw_at lw_m6 93 rfl) rfl
theorem q1375 : (Jvm.Cond.selects "CreditShelfModel" ({ cls := "CreditShelfModel", name := "restore", desc := "()I" } : Jvm.MethodName) ({ cls := "CreditShelfModel", name := "restore", desc := "()I" } : Jvm.MethodName)) ∈ lw_all := lw_g (lw_at lw_m6 94 rfl) rfl
theorem q1376 : (Jvm.Cond.code ({ cls := "CreditShelfModel", name := "restore", desc := "()I" } : Jvm.MethodName) prog_11_method_70_code (1 : Nat) (Option.some Jvm.ClassFile.FieldType.int)) ∈ lw_all := lw_g (lw_at lw_m6 95 rfl) rfl
theorem q1378 : (Jvm.Cond.instanceMethod ({ cls := "CreditShelfModel", name := "count", desc := "(I)I" } : Jvm.MethodName)) ∈ lw_all := lw_g (lw_at lw_m6 97 rfl) rfl
theorem q1379 : (Jvm.Cond.selects "CreditShelfModel" ({ cls := "CreditShelfModel", name := "count", desc := "(I)I" } : Jvm.MethodName) ({ cls := "CreditShelfModel", name := "count", desc := "(I)I" } : Jvm.MethodName)) ∈ lw_all := lw_g (lw_at lw_m6 98 rfl) rfl
theorem q1380 : (Jvm.Cond.code ({ cls := "CreditShelfModel", name := "count", desc := "(I)I" } : Jvm.MethodName) prog_11_method_72_code (2 : Nat) (Option.some Jvm.ClassFile.FieldType.int)) ∈ lw_all := lw_g (lw_at lw_m6 99 rfl) rfl
theorem q1381 : (Jvm.Cond.methodLink "CreditShelfModel" (345 : Nat) ({ cls := "CreditShelfModel", name := "countOf", desc := "(I)I" } : Jvm.MethodName)) ∈ lw_all := lw_g (lw_at lw_m6 100 rfl) rfl
theorem q1382 : (Jvm.Cond.privateMethod ({ cls := "CreditShelfModel", name := "countOf", desc := "(I)I" } : Jvm.MethodName)) ∈ lw_tbl := lw_at lw_m6 101 rfl
theorem q1383 : (Jvm.Cond.instanceMethod ({ cls := "CreditShelfModel", name := "countOf", desc := "(I)I" } : Jvm.MethodName)) ∈ lw_all := lw_g (lw_at lw_m6 102 rfl) rfl
theorem q1384 : (Jvm.Cond.code ({ cls := "CreditShelfModel", name := "countOf", desc := "(I)I" } : Jvm.MethodName) prog_11_method_71_code (2 : Nat) (Option.some Jvm.ClassFile.FieldType.int)) ∈ lw_all := lw_g (lw_at lw_m6 103 rfl) rfl
theorem q1386 : (Jvm.Cond.instanceMethod ({ cls := "CreditShelfModel", name := "digest", desc := "()J" } : Jvm.MethodName)) ∈ lw_all := lw_g (lw_at lw_m6 105 rfl) rfl
theorem q1387 : (Jvm.Cond.selects "CreditShelfModel" ({ cls := "CreditShelfModel", name := "digest", desc := "()J" } : Jvm.MethodName) ({ cls := "CreditShelfModel", name := "digest", desc := "()J" } : Jvm.MethodName)) ∈ lw_all := lw_g (lw_at lw_m6 106 rfl) rfl
theorem q1388 : (Jvm.Cond.code ({ cls := "CreditShelfModel", name := "digest", desc := "()J" } : Jvm.MethodName) prog_11_method_75_code (3 : Nat) (Option.some Jvm.ClassFile.FieldType.long)) ∈ lw_all := lw_g (lw_at lw_m6 107 rfl) rfl
theorem q1389 : (Jvm.Cond.constantLong "CreditShelfModel" (360 : Nat) (1373 : Int64)) ∈ lw_all := lw_g (lw_at lw_m6 108 rfl) rfl
theorem q1390 : (Jvm.Cond.methodLink "CreditShelfModel" (354 : Nat) ({ cls := "CreditShelfModel", name := "say", desc := "(J)V" } : Jvm.MethodName)) ∈ lw_all := lw_g (lw_at lw_m6 109 rfl) rfl
theorem q1391 : (Jvm.Cond.privateMethod ({ cls := "CreditShelfModel", name := "say", desc := "(J)V" } : Jvm.MethodName)) ∈ lw_tbl := lw_at lw_m6 110 rfl
theorem q1392 : (Jvm.Cond.instanceMethod ({ cls := "CreditShelfModel", name := "say", desc := "(J)V" } : Jvm.MethodName)) ∈ lw_all := lw_g (lw_at lw_m6 111 rfl) rfl
theorem q1393 : (Jvm.Cond.code ({ cls := "CreditShelfModel", name := "say", desc := "(J)V" } : Jvm.MethodName) prog_11_method_73_code (3 : Nat) (Option.none : Option Jvm.ClassFile.FieldType)) ∈ lw_all := lw_g (lw_at lw_m6 112 rfl) rfl
theorem q1394 : (Jvm.Cond.constantLong "CreditShelfModel" (348 : Nat) (31 : Int64)) ∈ lw_all := lw_g (lw_at lw_m6 113 rfl) rfl
theorem q1395 : (Jvm.Cond.methodLink "CreditShelfModel" (362 : Nat) ({ cls := "CreditShelfModel", name := "sayShelf", desc := "()V" } : Jvm.MethodName)) ∈ lw_all := lw_g (lw_at lw_m6 114 rfl) rfl
theorem q1396 : (Jvm.Cond.privateMethod ({ cls := "CreditShelfModel", name := "sayShelf", desc := "()V" } : Jvm.MethodName)) ∈ lw_tbl := lw_at lw_m6 115 rfl
theorem q1397 : (Jvm.Cond.instanceMethod ({ cls := "CreditShelfModel", name := "sayShelf", desc := "()V" } : Jvm.MethodName)) ∈ lw_all := lw_g (lw_at lw_m6 116 rfl) rfl
theorem q1398 : (Jvm.Cond.code ({ cls := "CreditShelfModel", name := "sayShelf", desc := "()V" } : Jvm.MethodName) prog_11_method_74_code (2 : Nat) (Option.none : Option Jvm.ClassFile.FieldType)) ∈ lw_all := lw_g (lw_at lw_m6 117 rfl) rfl
theorem q1399 : (Jvm.Cond.constantLong "CreditShelfModel" (358 : Nat) (-1 : Int64)) ∈ lw_all := lw_g (lw_at lw_m6 118 rfl) rfl
theorem q1410 : (Jvm.Cond.castable "CreditShelfModel" "java/lang/Object") ∈ lw_tbl := lw_at lw_m6 129 rfl
theorem in_X2 : ∀ w ∈ wsX20, w ∈ lw_all := lw_in wsX20 [987, 989, 991, 993, 995, 997, 999, 1001, 1003, 1005, 1007, 1009, 1011, 1013, 1015, 1017, 1019, 1021, 1023, 1025, 1027, 1029, 1031, 1033, 1035, 1037, 1039, 1041, 1043, 1045, 1047, 1049, 1051, 1053, 1055, 1057, 1059, 1061, 1063, 1065, 1067, 1069, 1071, 1073, 1075, 1077, 1079, 1081, 1083, 1085] (by decide +kernel) (by decide +kernel)

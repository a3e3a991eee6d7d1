/-! CreditShelf -/
set_option maxRecDepth 100000
def RX0 : String := "CreditShelf"
def TX0 : u_T := fun k => match k with
  | 0 => ("CreditShelf", "tree", "LCreditShelf$Tree;", false)
  | 1 => ("CreditShelf", "shelves", "I", false)
  | 2 => ("CreditShelf", "page", "[B", true)
  | 3 => ("CreditShelf", "pageLength", "I", false)
  | 4 => ("CreditShelf", "log", "[I", true)
  | 5 => ("CreditShelf", "logged", "I", false)
  | 6 => ("CreditShelf", "seen", "I", false)
  | 7 => ("CreditShelf", "seenKey", "[I", true)
  | 8 => ("CreditShelf", "seenWhat", "[I", true)
  | 9 => ("CreditShelf", "seenCould", "[Z", true)
  | 10 => ("CreditShelf", "samples", "Ljava/util/ArrayList;", true)
  | 11 => ("CreditShelf", "drawn", "J", false)
  | 12 => ("CreditShelf", "kept", "LCreditShelf$Tree;", false)
  | 13 => ("CreditShelf", "keptShelf", "I", false)
  | 14 => ("CreditShelf", "keptLogged", "I", false)
  | 15 => ("CreditShelf", "keptSeen", "I", false)
  | 16 => ("CreditShelf", "keptLog", "[I", true)
  | 17 => ("CreditShelf", "keptKey", "[I", true)
  | 18 => ("CreditShelf", "keptWhat", "[I", true)
  | _ => ("CreditShelf", "keptCould", "[Z", true)
def tyX0 : Nat → FieldType := fun k => match k with
  | 0 => .object "CreditShelf$Tree"
  | 1 => .int
  | 2 => .array .byte
  | 3 => .int
  | 4 => .array .int
  | 5 => .int
  | 6 => .int
  | 7 => .array .int
  | 8 => .array .int
  | 9 => .array .boolean
  | 10 => .object "java/util/ArrayList"
  | 11 => .long
  | 12 => .object "CreditShelf$Tree"
  | 13 => .int
  | 14 => .int
  | 15 => .int
  | 16 => .array .int
  | 17 => .array .int
  | 18 => .array .int
  | _ => .array .boolean
abbrev wsX00 : List Cond := u_ws RX0 TX0 20
set_option maxRecDepth 100000 in
theorem nmX0 : ∀ a, a < 20 → ∀ b, b < 20 → a ≠ b → (TX0 a).2.1 ≠ (TX0 b).2.1 := by decide +kernel
set_option maxRecDepth 100000 in
theorem tyX0_ok : ∀ k, k < 20 → parseFieldDescriptor (TX0 k).2.2.1 = some (tyX0 k) := by decide +kernel
abbrev cX0_init : ByteArray := prog_1_method_4_code
def yX0_init : MethodName := ⟨RX0, "<init>", "()V"⟩
def dkwX0_init_4 : List UInt8 := [181, 0, 54, 177]
abbrev dktX0_init_4 : List UInt8 := dkwX0_init_4 ++ []
def dkwX0_init_3 : List UInt8 := [181, 0, 45, 42, 16, 6, 188, 10, 181, 0, 48, 42, 16, 6, 188, 10, 181, 0, 51, 42, 16, 6, 188, 4]
abbrev dktX0_init_3 : List UInt8 := dkwX0_init_3 ++ dktX0_init_4
def dkwX0_init_2 : List UInt8 := [16, 6, 188, 4, 181, 0, 34, 42, 187, 0, 38, 89, 183, 0, 40, 181, 0, 41, 42, 16, 60, 188, 10]
abbrev dktX0_init_2 : List UInt8 := dkwX0_init_2 ++ dktX0_init_3
def dkwX0_init_1 : List UInt8 := [16, 60, 188, 10, 181, 0, 24, 42, 16, 6, 188, 10, 181, 0, 28, 42, 16, 6, 188, 10, 181, 0, 31, 42]
abbrev dktX0_init_1 : List UInt8 := dkwX0_init_1 ++ dktX0_init_2
def dkwX0_init_0 : List UInt8 := [42, 183, 0, 7, 42, 187, 0, 13, 89, 183, 0, 15, 181, 0, 16, 42, 16, 54, 188, 8, 181, 0, 20, 42]
abbrev dktX0_init_0 : List UInt8 := dkwX0_init_0 ++ dktX0_init_1
theorem dksX0_init_0 : cX0_init.data.toList.drop 0 = dktX0_init_0 := by decide +kernel
theorem dksX0_init_1 : cX0_init.data.toList.drop 24 = dktX0_init_1 := dk_seg dksX0_init_0 24 rfl rfl
theorem dksX0_init_2 : cX0_init.data.toList.drop 48 = dktX0_init_2 := dk_seg dksX0_init_1 24 rfl rfl
theorem dksX0_init_3 : cX0_init.data.toList.drop 71 = dktX0_init_3 := dk_seg dksX0_init_2 23 rfl rfl
theorem dksX0_init_4 : cX0_init.data.toList.drop 95 = dktX0_init_4 := dk_seg dksX0_init_3 24 rfl rfl
theorem dX0_init_0 : decode cX0_init 0 = .ok (.aload_n 0, 1) := dk_42 (dk_at dksX0_init_0 0 rfl rfl)
theorem dX0_init_1 : decode cX0_init 1 = .ok (.invokespecial 7, 3) := dk_183 0 7 (dk_at dksX0_init_0 1 rfl rfl)
theorem dX0_init_4 : decode cX0_init 4 = .ok (.aload_n 0, 1) := dk_42 (dk_at dksX0_init_0 4 rfl rfl)
theorem dX0_init_5 : decode cX0_init 5 = .ok (.new 13, 3) := dk_187 0 13 (dk_at dksX0_init_0 5 rfl rfl)
theorem dX0_init_8 : decode cX0_init 8 = .ok (.dup, 1) := dk_89 (dk_at dksX0_init_0 8 rfl rfl)
theorem dX0_init_9 : decode cX0_init 9 = .ok (.invokespecial 15, 3) := dk_183 0 15 (dk_at dksX0_init_0 9 rfl rfl)
theorem dX0_init_12 : decode cX0_init 12 = .ok (.putfield 16, 3) := dk_181 0 16 (dk_at dksX0_init_0 12 rfl rfl)
theorem dX0_init_15 : decode cX0_init 15 = .ok (.aload_n 0, 1) := dk_42 (dk_at dksX0_init_0 15 rfl rfl)
theorem dX0_init_16 : decode cX0_init 16 = .ok (.bipush 54, 2) := dk_16 54 (dk_at dksX0_init_0 16 rfl rfl)
theorem dX0_init_18 : decode cX0_init 18 = .ok (.newarray .byte, 2) := dk_188_8 (dk_at dksX0_init_0 18 rfl rfl)
theorem dX0_init_20 : decode cX0_init 20 = .ok (.putfield 20, 3) := dk_181 0 20 (dk_at dksX0_init_0 20 rfl rfl)
theorem dX0_init_23 : decode cX0_init 23 = .ok (.aload_n 0, 1) := dk_42 (dk_at dksX0_init_0 23 rfl rfl)
theorem dX0_init_24 : decode cX0_init 24 = .ok (.bipush 60, 2) := dk_16 60 (dk_at dksX0_init_1 0 rfl rfl)
theorem dX0_init_26 : decode cX0_init 26 = .ok (.newarray .int, 2) := dk_188_10 (dk_at dksX0_init_1 2 rfl rfl)
theorem dX0_init_28 : decode cX0_init 28 = .ok (.putfield 24, 3) := dk_181 0 24 (dk_at dksX0_init_1 4 rfl rfl)
theorem dX0_init_31 : decode cX0_init 31 = .ok (.aload_n 0, 1) := dk_42 (dk_at dksX0_init_1 7 rfl rfl)
theorem dX0_init_32 : decode cX0_init 32 = .ok (.bipush 6, 2) := dk_16 6 (dk_at dksX0_init_1 8 rfl rfl)
theorem dX0_init_34 : decode cX0_init 34 = .ok (.newarray .int, 2) := dk_188_10 (dk_at dksX0_init_1 10 rfl rfl)
theorem dX0_init_36 : decode cX0_init 36 = .ok (.putfield 28, 3) := dk_181 0 28 (dk_at dksX0_init_1 12 rfl rfl)
theorem dX0_init_39 : decode cX0_init 39 = .ok (.aload_n 0, 1) := dk_42 (dk_at dksX0_init_1 15 rfl rfl)
theorem dX0_init_40 : decode cX0_init 40 = .ok (.bipush 6, 2) := dk_16 6 (dk_at dksX0_init_1 16 rfl rfl)
theorem dX0_init_42 : decode cX0_init 42 = .ok (.newarray .int, 2) := dk_188_10 (dk_at dksX0_init_1 18 rfl rfl)
theorem dX0_init_44 : decode cX0_init 44 = .ok (.putfield 31, 3) := dk_181 0 31 (dk_at dksX0_init_1 20 rfl rfl)
theorem dX0_init_47 : decode cX0_init 47 = .ok (.aload_n 0, 1) := dk_42 (dk_at dksX0_init_1 23 rfl rfl)
theorem dX0_init_48 : decode cX0_init 48 = .ok (.bipush 6, 2) := dk_16 6 (dk_at dksX0_init_2 0 rfl rfl)
theorem dX0_init_50 : decode cX0_init 50 = .ok (.newarray .boolean, 2) := dk_188_4 (dk_at dksX0_init_2 2 rfl rfl)
theorem dX0_init_52 : decode cX0_init 52 = .ok (.putfield 34, 3) := dk_181 0 34 (dk_at dksX0_init_2 4 rfl rfl)
theorem dX0_init_55 : decode cX0_init 55 = .ok (.aload_n 0, 1) := dk_42 (dk_at dksX0_init_2 7 rfl rfl)
theorem dX0_init_56 : decode cX0_init 56 = .ok (.new 38, 3) := dk_187 0 38 (dk_at dksX0_init_2 8 rfl rfl)
theorem dX0_init_59 : decode cX0_init 59 = .ok (.dup, 1) := dk_89 (dk_at dksX0_init_2 11 rfl rfl)
theorem dX0_init_60 : decode cX0_init 60 = .ok (.invokespecial 40, 3) := dk_183 0 40 (dk_at dksX0_init_2 12 rfl rfl)
theorem dX0_init_63 : decode cX0_init 63 = .ok (.putfield 41, 3) := dk_181 0 41 (dk_at dksX0_init_2 15 rfl rfl)
theorem dX0_init_66 : decode cX0_init 66 = .ok (.aload_n 0, 1) := dk_42 (dk_at dksX0_init_2 18 rfl rfl)
theorem dX0_init_67 : decode cX0_init 67 = .ok (.bipush 60, 2) := dk_16 60 (dk_at dksX0_init_2 19 rfl rfl)
theorem dX0_init_69 : decode cX0_init 69 = .ok (.newarray .int, 2) := dk_188_10 (dk_at dksX0_init_2 21 rfl rfl)
theorem dX0_init_71 : decode cX0_init 71 = .ok (.putfield 45, 3) := dk_181 0 45 (dk_at dksX0_init_3 0 rfl rfl)
theorem dX0_init_74 : decode cX0_init 74 = .ok (.aload_n 0, 1) := dk_42 (dk_at dksX0_init_3 3 rfl rfl)
theorem dX0_init_75 : decode cX0_init 75 = .ok (.bipush 6, 2) := dk_16 6 (dk_at dksX0_init_3 4 rfl rfl)
theorem dX0_init_77 : decode cX0_init 77 = .ok (.newarray .int, 2) := dk_188_10 (dk_at dksX0_init_3 6 rfl rfl)
theorem dX0_init_79 : decode cX0_init 79 = .ok (.putfield 48, 3) := dk_181 0 48 (dk_at dksX0_init_3 8 rfl rfl)
theorem dX0_init_82 : decode cX0_init 82 = .ok (.aload_n 0, 1) := dk_42 (dk_at dksX0_init_3 11 rfl rfl)
theorem dX0_init_83 : decode cX0_init 83 = .ok (.bipush 6, 2) := dk_16 6 (dk_at dksX0_init_3 12 rfl rfl)
theorem dX0_init_85 : decode cX0_init 85 = .ok (.newarray .int, 2) := dk_188_10 (dk_at dksX0_init_3 14 rfl rfl)
theorem dX0_init_87 : decode cX0_init 87 = .ok (.putfield 51, 3) := dk_181 0 51 (dk_at dksX0_init_3 16 rfl rfl)
theorem dX0_init_90 : decode cX0_init 90 = .ok (.aload_n 0, 1) := dk_42 (dk_at dksX0_init_3 19 rfl rfl)
theorem dX0_init_91 : decode cX0_init 91 = .ok (.bipush 6, 2) := dk_16 6 (dk_at dksX0_init_3 20 rfl rfl)
theorem dX0_init_93 : decode cX0_init 93 = .ok (.newarray .boolean, 2) := dk_188_4 (dk_at dksX0_init_3 22 rfl rfl)
theorem dX0_init_95 : decode cX0_init 95 = .ok (.putfield 54, 3) := dk_181 0 54 (dk_at dksX0_init_4 0 rfl rfl)
theorem dX0_init_98 : decode cX0_init 98 = .ok (.return_, 1) := dk_177 (dk_at dksX0_init_4 3 rfl rfl)
abbrev cX0_letter : ByteArray := prog_1_method_10_code
def yX0_letter : MethodName := ⟨RX0, "letter", "(I)I"⟩
def dkwX0_letter_2 : List UInt8 := [180, 0, 114, 172]
abbrev dktX0_letter_2 : List UInt8 := dkwX0_letter_2 ++ []
def dkwX0_letter_1 : List UInt8 := [172, 42, 180, 0, 20, 42, 180, 0, 114, 27, 145, 84, 42, 89, 180, 0, 114, 4, 96, 181, 0, 114, 42]
abbrev dktX0_letter_1 : List UInt8 := dkwX0_letter_1 ++ dktX0_letter_2
def dkwX0_letter_0 : List UInt8 := [27, 4, 16, 126, 184, 0, 3, 154, 0, 6, 16, 154, 172, 42, 180, 0, 114, 16, 54, 160, 0, 6, 16, 152]
abbrev dktX0_letter_0 : List UInt8 := dkwX0_letter_0 ++ dktX0_letter_1
theorem dksX0_letter_0 : cX0_letter.data.toList.drop 0 = dktX0_letter_0 := by decide +kernel
theorem dksX0_letter_1 : cX0_letter.data.toList.drop 24 = dktX0_letter_1 := dk_seg dksX0_letter_0 24 rfl rfl
theorem dksX0_letter_2 : cX0_letter.data.toList.drop 47 = dktX0_letter_2 := dk_seg dksX0_letter_1 23 rfl rfl
theorem dX0_letter_0 : decode cX0_letter 0 = .ok (.iload_n 1, 1) := dk_27 (dk_at dksX0_letter_0 0 rfl rfl)
theorem dX0_letter_1 : decode cX0_letter 1 = .ok (.iconst 1, 1) := dk_4 (dk_at dksX0_letter_0 1 rfl rfl)
theorem dX0_letter_2 : decode cX0_letter 2 = .ok (.bipush 126, 2) := dk_16 126 (dk_at dksX0_letter_0 2 rfl rfl)
theorem dX0_letter_4 : decode cX0_letter 4 = .ok (.invokestatic 3, 3) := dk_184 0 3 (dk_at dksX0_letter_0 4 rfl rfl)
theorem dX0_letter_7 : decode cX0_letter 7 = .ok (.ifCond .ne 6, 3) := dk_154 0 6 (dk_at dksX0_letter_0 7 rfl rfl)
theorem dX0_letter_10 : decode cX0_letter 10 = .ok (.bipush (-102), 2) := dk_16 154 (dk_at dksX0_letter_0 10 rfl rfl)
theorem dX0_letter_12 : decode cX0_letter 12 = .ok (.ireturn, 1) := dk_172 (dk_at dksX0_letter_0 12 rfl rfl)
theorem dX0_letter_13 : decode cX0_letter 13 = .ok (.aload_n 0, 1) := dk_42 (dk_at dksX0_letter_0 13 rfl rfl)
theorem dX0_letter_14 : decode cX0_letter 14 = .ok (.getfield 114, 3) := dk_180 0 114 (dk_at dksX0_letter_0 14 rfl rfl)
theorem dX0_letter_17 : decode cX0_letter 17 = .ok (.bipush 54, 2) := dk_16 54 (dk_at dksX0_letter_0 17 rfl rfl)
theorem dX0_letter_19 : decode cX0_letter 19 = .ok (.if_icmp .ne 6, 3) := dk_160 0 6 (dk_at dksX0_letter_0 19 rfl rfl)
theorem dX0_letter_22 : decode cX0_letter 22 = .ok (.bipush (-104), 2) := dk_16 152 (dk_at dksX0_letter_0 22 rfl rfl)
theorem dX0_letter_24 : decode cX0_letter 24 = .ok (.ireturn, 1) := dk_172 (dk_at dksX0_letter_1 0 rfl rfl)
theorem dX0_letter_25 : decode cX0_letter 25 = .ok (.aload_n 0, 1) := dk_42 (dk_at dksX0_letter_1 1 rfl rfl)
theorem dX0_letter_26 : decode cX0_letter 26 = .ok (.getfield 20, 3) := dk_180 0 20 (dk_at dksX0_letter_1 2 rfl rfl)
theorem dX0_letter_29 : decode cX0_letter 29 = .ok (.aload_n 0, 1) := dk_42 (dk_at dksX0_letter_1 5 rfl rfl)
theorem dX0_letter_30 : decode cX0_letter 30 = .ok (.getfield 114, 3) := dk_180 0 114 (dk_at dksX0_letter_1 6 rfl rfl)
theorem dX0_letter_33 : decode cX0_letter 33 = .ok (.iload_n 1, 1) := dk_27 (dk_at dksX0_letter_1 9 rfl rfl)
theorem dX0_letter_34 : decode cX0_letter 34 = .ok (.i2b, 1) := dk_145 (dk_at dksX0_letter_1 10 rfl rfl)
theorem dX0_letter_35 : decode cX0_letter 35 = .ok (.bastore, 1) := dk_84 (dk_at dksX0_letter_1 11 rfl rfl)
theorem dX0_letter_36 : decode cX0_letter 36 = .ok (.aload_n 0, 1) := dk_42 (dk_at dksX0_letter_1 12 rfl rfl)
theorem dX0_letter_37 : decode cX0_letter 37 = .ok (.dup, 1) := dk_89 (dk_at dksX0_letter_1 13 rfl rfl)
theorem dX0_letter_38 : decode cX0_letter 38 = .ok (.getfield 114, 3) := dk_180 0 114 (dk_at dksX0_letter_1 14 rfl rfl)
theorem dX0_letter_41 : decode cX0_letter 41 = .ok (.iconst 1, 1) := dk_4 (dk_at dksX0_letter_1 17 rfl rfl)
theorem dX0_letter_42 : decode cX0_letter 42 = .ok (.iadd, 1) := dk_96 (dk_at dksX0_letter_1 18 rfl rfl)
theorem dX0_letter_43 : decode cX0_letter 43 = .ok (.putfield 114, 3) := dk_181 0 114 (dk_at dksX0_letter_1 19 rfl rfl)
theorem dX0_letter_46 : decode cX0_letter 46 = .ok (.aload_n 0, 1) := dk_42 (dk_at dksX0_letter_1 22 rfl rfl)
theorem dX0_letter_47 : decode cX0_letter 47 = .ok (.getfield 114, 3) := dk_180 0 114 (dk_at dksX0_letter_2 0 rfl rfl)
theorem dX0_letter_50 : decode cX0_letter 50 = .ok (.ireturn, 1) := dk_172 (dk_at dksX0_letter_2 3 rfl rfl)
abbrev cX0_in : ByteArray := prog_1_method_1_code
def yX0_in : MethodName := ⟨RX0, "in", "(III)Z"⟩
def dkwX0_in_0 : List UInt8 := [26, 27, 161, 0, 12, 26, 28, 163, 0, 7, 4, 167, 0, 4, 3, 172]
abbrev dktX0_in_0 : List UInt8 := dkwX0_in_0 ++ []
theorem dksX0_in_0 : cX0_in.data.toList.drop 0 = dktX0_in_0 := by decide +kernel
theorem dX0_in_0 : decode cX0_in 0 = .ok (.iload_n 0, 1) := dk_26 (dk_at dksX0_in_0 0 rfl rfl)
theorem dX0_in_1 : decode cX0_in 1 = .ok (.iload_n 1, 1) := dk_27 (dk_at dksX0_in_0 1 rfl rfl)
theorem dX0_in_2 : decode cX0_in 2 = .ok (.if_icmp .lt 12, 3) := dk_161 0 12 (dk_at dksX0_in_0 2 rfl rfl)
theorem dX0_in_5 : decode cX0_in 5 = .ok (.iload_n 0, 1) := dk_26 (dk_at dksX0_in_0 5 rfl rfl)
theorem dX0_in_6 : decode cX0_in 6 = .ok (.iload_n 2, 1) := dk_28 (dk_at dksX0_in_0 6 rfl rfl)
theorem dX0_in_7 : decode cX0_in 7 = .ok (.if_icmp .gt 7, 3) := dk_163 0 7 (dk_at dksX0_in_0 7 rfl rfl)
theorem dX0_in_10 : decode cX0_in 10 = .ok (.iconst 1, 1) := dk_4 (dk_at dksX0_in_0 10 rfl rfl)
theorem dX0_in_11 : decode cX0_in 11 = .ok (.goto 4, 3) := dk_167 0 4 (dk_at dksX0_in_0 11 rfl rfl)
theorem dX0_in_14 : decode cX0_in 14 = .ok (.iconst 0, 1) := dk_3 (dk_at dksX0_in_0 14 rfl rfl)
theorem dX0_in_15 : decode cX0_in 15 = .ok (.ireturn, 1) := dk_172 (dk_at dksX0_in_0 15 rfl rfl)
abbrev cX0_blank : ByteArray := prog_1_method_11_code
def yX0_blank : MethodName := ⟨RX0, "blank", "()I"⟩
def dkwX0_blank_0 : List UInt8 := [42, 180, 0, 114, 60, 42, 3, 181, 0, 114, 27, 172]
abbrev dktX0_blank_0 : List UInt8 := dkwX0_blank_0 ++ []
theorem dksX0_blank_0 : cX0_blank.data.toList.drop 0 = dktX0_blank_0 := by decide +kernel
theorem dX0_blank_0 : decode cX0_blank 0 = .ok (.aload_n 0, 1) := dk_42 (dk_at dksX0_blank_0 0 rfl rfl)
theorem dX0_blank_1 : decode cX0_blank 1 = .ok (.getfield 114, 3) := dk_180 0 114 (dk_at dksX0_blank_0 1 rfl rfl)
theorem dX0_blank_4 : decode cX0_blank 4 = .ok (.istore_n 1, 1) := dk_60 (dk_at dksX0_blank_0 4 rfl rfl)
theorem dX0_blank_5 : decode cX0_blank 5 = .ok (.aload_n 0, 1) := dk_42 (dk_at dksX0_blank_0 5 rfl rfl)
theorem dX0_blank_6 : decode cX0_blank 6 = .ok (.iconst 0, 1) := dk_3 (dk_at dksX0_blank_0 6 rfl rfl)
theorem dX0_blank_7 : decode cX0_blank 7 = .ok (.putfield 114, 3) := dk_181 0 114 (dk_at dksX0_blank_0 7 rfl rfl)
theorem dX0_blank_10 : decode cX0_blank 10 = .ok (.iload_n 1, 1) := dk_27 (dk_at dksX0_blank_0 10 rfl rfl)
theorem dX0_blank_11 : decode cX0_blank 11 = .ok (.ireturn, 1) := dk_172 (dk_at dksX0_blank_0 11 rfl rfl)
abbrev cX0_fault : ByteArray := prog_1_method_12_code
def yX0_fault : MethodName := ⟨RX0, "fault", "()I"⟩
def dkwX0_fault_0 : List UInt8 := [187, 0, 117, 89, 42, 183, 0, 119, 182, 0, 122, 87, 42, 180, 0, 114, 172, 76, 43, 180, 0, 128, 172]
abbrev dktX0_fault_0 : List UInt8 := dkwX0_fault_0 ++ []
theorem dksX0_fault_0 : cX0_fault.data.toList.drop 0 = dktX0_fault_0 := by decide +kernel
theorem dX0_fault_0 : decode cX0_fault 0 = .ok (.new 117, 3) := dk_187 0 117 (dk_at dksX0_fault_0 0 rfl rfl)
theorem dX0_fault_3 : decode cX0_fault 3 = .ok (.dup, 1) := dk_89 (dk_at dksX0_fault_0 3 rfl rfl)
theorem dX0_fault_4 : decode cX0_fault 4 = .ok (.aload_n 0, 1) := dk_42 (dk_at dksX0_fault_0 4 rfl rfl)
theorem dX0_fault_5 : decode cX0_fault 5 = .ok (.invokespecial 119, 3) := dk_183 0 119 (dk_at dksX0_fault_0 5 rfl rfl)
theorem dX0_fault_8 : decode cX0_fault 8 = .ok (.invokevirtual 122, 3) := dk_182 0 122 (dk_at dksX0_fault_0 8 rfl rfl)
theorem dX0_fault_11 : decode cX0_fault 11 = .ok (.pop, 1) := dk_87 (dk_at dksX0_fault_0 11 rfl rfl)
theorem dX0_fault_12 : decode cX0_fault 12 = .ok (.aload_n 0, 1) := dk_42 (dk_at dksX0_fault_0 12 rfl rfl)
theorem dX0_fault_13 : decode cX0_fault 13 = .ok (.getfield 114, 3) := dk_180 0 114 (dk_at dksX0_fault_0 13 rfl rfl)
theorem dX0_fault_16 : decode cX0_fault 16 = .ok (.ireturn, 1) := dk_172 (dk_at dksX0_fault_0 16 rfl rfl)
theorem dX0_fault_17 : decode cX0_fault 17 = .ok (.astore_n 1, 1) := dk_76 (dk_at dksX0_fault_0 17 rfl rfl)
theorem dX0_fault_18 : decode cX0_fault 18 = .ok (.aload_n 1, 1) := dk_43 (dk_at dksX0_fault_0 18 rfl rfl)
theorem dX0_fault_19 : decode cX0_fault 19 = .ok (.getfield 128, 3) := dk_180 0 128 (dk_at dksX0_fault_0 19 rfl rfl)
theorem dX0_fault_22 : decode cX0_fault 22 = .ok (.ireturn, 1) := dk_172 (dk_at dksX0_fault_0 22 rfl rfl)
abbrev cX0_made : ByteArray := prog_1_method_5_code
def yX0_made : MethodName := ⟨RX0, "made", "(III)LCreditShelf$Entry;"⟩
def dkwX0_made_3 : List UInt8 := [181, 0, 72, 45, 28, 181, 0, 76, 45, 176]
abbrev dktX0_made_3 : List UInt8 := dkwX0_made_3 ++ []
def dkwX0_made_2 : List UInt8 := [160, 0, 13, 187, 0, 66, 89, 183, 0, 68, 167, 0, 10, 187, 0, 69, 89, 183, 0, 71, 78, 45, 27]
abbrev dktX0_made_2 : List UInt8 := dkwX0_made_2 ++ dktX0_made_3
def dkwX0_made_1 : List UInt8 := [183, 0, 62, 167, 0, 40, 26, 6, 160, 0, 13, 187, 0, 63, 89, 183, 0, 65, 167, 0, 25, 26, 7]
abbrev dktX0_made_1 : List UInt8 := dkwX0_made_1 ++ dktX0_made_2
def dkwX0_made_0 : List UInt8 := [26, 4, 160, 0, 13, 187, 0, 57, 89, 183, 0, 59, 167, 0, 55, 26, 5, 160, 0, 13, 187, 0, 60, 89]
abbrev dktX0_made_0 : List UInt8 := dkwX0_made_0 ++ dktX0_made_1
theorem dksX0_made_0 : cX0_made.data.toList.drop 0 = dktX0_made_0 := by decide +kernel
theorem dksX0_made_1 : cX0_made.data.toList.drop 24 = dktX0_made_1 := dk_seg dksX0_made_0 24 rfl rfl
theorem dksX0_made_2 : cX0_made.data.toList.drop 47 = dktX0_made_2 := dk_seg dksX0_made_1 23 rfl rfl
theorem dksX0_made_3 : cX0_made.data.toList.drop 70 = dktX0_made_3 := dk_seg dksX0_made_2 23 rfl rfl
theorem dX0_made_0 : decode cX0_made 0 = .ok (.iload_n 0, 1) := dk_26 (dk_at dksX0_made_0 0 rfl rfl)
theorem dX0_made_1 : decode cX0_made 1 = .ok (.iconst 1, 1) := dk_4 (dk_at dksX0_made_0 1 rfl rfl)
theorem dX0_made_2 : decode cX0_made 2 = .ok (.if_icmp .ne 13, 3) := dk_160 0 13 (dk_at dksX0_made_0 2 rfl rfl)
theorem dX0_made_5 : decode cX0_made 5 = .ok (.new 57, 3) := dk_187 0 57 (dk_at dksX0_made_0 5 rfl rfl)
theorem dX0_made_8 : decode cX0_made 8 = .ok (.dup, 1) := dk_89 (dk_at dksX0_made_0 8 rfl rfl)
theorem dX0_made_9 : decode cX0_made 9 = .ok (.invokespecial 59, 3) := dk_183 0 59 (dk_at dksX0_made_0 9 rfl rfl)
theorem dX0_made_12 : decode cX0_made 12 = .ok (.goto 55, 3) := dk_167 0 55 (dk_at dksX0_made_0 12 rfl rfl)
theorem dX0_made_15 : decode cX0_made 15 = .ok (.iload_n 0, 1) := dk_26 (dk_at dksX0_made_0 15 rfl rfl)
theorem dX0_made_16 : decode cX0_made 16 = .ok (.iconst 2, 1) := dk_5 (dk_at dksX0_made_0 16 rfl rfl)
theorem dX0_made_17 : decode cX0_made 17 = .ok (.if_icmp .ne 13, 3) := dk_160 0 13 (dk_at dksX0_made_0 17 rfl rfl)
theorem dX0_made_20 : decode cX0_made 20 = .ok (.new 60, 3) := dk_187 0 60 (dk_at dksX0_made_0 20 rfl rfl)
theorem dX0_made_23 : decode cX0_made 23 = .ok (.dup, 1) := dk_89 (dk_at dksX0_made_0 23 rfl rfl)
theorem dX0_made_24 : decode cX0_made 24 = .ok (.invokespecial 62, 3) := dk_183 0 62 (dk_at dksX0_made_1 0 rfl rfl)
theorem dX0_made_27 : decode cX0_made 27 = .ok (.goto 40, 3) := dk_167 0 40 (dk_at dksX0_made_1 3 rfl rfl)
theorem dX0_made_30 : decode cX0_made 30 = .ok (.iload_n 0, 1) := dk_26 (dk_at dksX0_made_1 6 rfl rfl)
theorem dX0_made_31 : decode cX0_made 31 = .ok (.iconst 3, 1) := dk_6 (dk_at dksX0_made_1 7 rfl rfl)
theorem dX0_made_32 : decode cX0_made 32 = .ok (.if_icmp .ne 13, 3) := dk_160 0 13 (dk_at dksX0_made_1 8 rfl rfl)
theorem dX0_made_35 : decode cX0_made 35 = .ok (.new 63, 3) := dk_187 0 63 (dk_at dksX0_made_1 11 rfl rfl)
theorem dX0_made_38 : decode cX0_made 38 = .ok (.dup, 1) := dk_89 (dk_at dksX0_made_1 14 rfl rfl)
theorem dX0_made_39 : decode cX0_made 39 = .ok (.invokespecial 65, 3) := dk_183 0 65 (dk_at dksX0_made_1 15 rfl rfl)
theorem dX0_made_42 : decode cX0_made 42 = .ok (.goto 25, 3) := dk_167 0 25 (dk_at dksX0_made_1 18 rfl rfl)
theorem dX0_made_45 : decode cX0_made 45 = .ok (.iload_n 0, 1) := dk_26 (dk_at dksX0_made_1 21 rfl rfl)
theorem dX0_made_46 : decode cX0_made 46 = .ok (.iconst 4, 1) := dk_7 (dk_at dksX0_made_1 22 rfl rfl)
theorem dX0_made_47 : decode cX0_made 47 = .ok (.if_icmp .ne 13, 3) := dk_160 0 13 (dk_at dksX0_made_2 0 rfl rfl)
theorem dX0_made_50 : decode cX0_made 50 = .ok (.new 66, 3) := dk_187 0 66 (dk_at dksX0_made_2 3 rfl rfl)
theorem dX0_made_53 : decode cX0_made 53 = .ok (.dup, 1) := dk_89 (dk_at dksX0_made_2 6 rfl rfl)
theorem dX0_made_54 : decode cX0_made 54 = .ok (.invokespecial 68, 3) := dk_183 0 68 (dk_at dksX0_made_2 7 rfl rfl)
theorem dX0_made_57 : decode cX0_made 57 = .ok (.goto 10, 3) := dk_167 0 10 (dk_at dksX0_made_2 10 rfl rfl)
theorem dX0_made_60 : decode cX0_made 60 = .ok (.new 69, 3) := dk_187 0 69 (dk_at dksX0_made_2 13 rfl rfl)
theorem dX0_made_63 : decode cX0_made 63 = .ok (.dup, 1) := dk_89 (dk_at dksX0_made_2 16 rfl rfl)
theorem dX0_made_64 : decode cX0_made 64 = .ok (.invokespecial 71, 3) := dk_183 0 71 (dk_at dksX0_made_2 17 rfl rfl)
theorem dX0_made_67 : decode cX0_made 67 = .ok (.astore_n 3, 1) := dk_78 (dk_at dksX0_made_2 20 rfl rfl)
theorem dX0_made_68 : decode cX0_made 68 = .ok (.aload_n 3, 1) := dk_45 (dk_at dksX0_made_2 21 rfl rfl)
theorem dX0_made_69 : decode cX0_made 69 = .ok (.iload_n 1, 1) := dk_27 (dk_at dksX0_made_2 22 rfl rfl)
theorem dX0_made_70 : decode cX0_made 70 = .ok (.putfield 72, 3) := dk_181 0 72 (dk_at dksX0_made_3 0 rfl rfl)
theorem dX0_made_73 : decode cX0_made 73 = .ok (.aload_n 3, 1) := dk_45 (dk_at dksX0_made_3 3 rfl rfl)
theorem dX0_made_74 : decode cX0_made 74 = .ok (.iload_n 2, 1) := dk_28 (dk_at dksX0_made_3 4 rfl rfl)
theorem dX0_made_75 : decode cX0_made 75 = .ok (.putfield 76, 3) := dk_181 0 76 (dk_at dksX0_made_3 5 rfl rfl)
theorem dX0_made_78 : decode cX0_made 78 = .ok (.aload_n 3, 1) := dk_45 (dk_at dksX0_made_3 8 rfl rfl)
theorem dX0_made_79 : decode cX0_made 79 = .ok (.areturn, 1) := dk_176 (dk_at dksX0_made_3 9 rfl rfl)
abbrev cX0_shelf : ByteArray := prog_1_method_14_code
def yX0_shelf : MethodName := ⟨RX0, "shelf", "()I"⟩
def dkwX0_shelf_2 : List UInt8 := [172]
abbrev dktX0_shelf_2 : List UInt8 := dkwX0_shelf_2 ++ []
def dkwX0_shelf_1 : List UInt8 := [181, 0, 111, 42, 3, 181, 0, 164, 42, 3, 181, 0, 114, 42, 180, 0, 16, 180, 0, 167, 172, 76, 16, 153]
abbrev dktX0_shelf_1 : List UInt8 := dkwX0_shelf_1 ++ dktX0_shelf_2
def dkwX0_shelf_0 : List UInt8 := [42, 187, 0, 117, 89, 42, 183, 0, 119, 182, 0, 122, 182, 0, 160, 42, 89, 180, 0, 111, 4, 96]
abbrev dktX0_shelf_0 : List UInt8 := dkwX0_shelf_0 ++ dktX0_shelf_1
theorem dksX0_shelf_0 : cX0_shelf.data.toList.drop 0 = dktX0_shelf_0 := by decide +kernel
theorem dksX0_shelf_1 : cX0_shelf.data.toList.drop 22 = dktX0_shelf_1 := dk_seg dksX0_shelf_0 22 rfl rfl
theorem dksX0_shelf_2 : cX0_shelf.data.toList.drop 46 = dktX0_shelf_2 := dk_seg dksX0_shelf_1 24 rfl rfl
theorem dX0_shelf_0 : decode cX0_shelf 0 = .ok (.aload_n 0, 1) := dk_42 (dk_at dksX0_shelf_0 0 rfl rfl)
theorem dX0_shelf_1 : decode cX0_shelf 1 = .ok (.new 117, 3) := dk_187 0 117 (dk_at dksX0_shelf_0 1 rfl rfl)
theorem dX0_shelf_4 : decode cX0_shelf 4 = .ok (.dup, 1) := dk_89 (dk_at dksX0_shelf_0 4 rfl rfl)
theorem dX0_shelf_5 : decode cX0_shelf 5 = .ok (.aload_n 0, 1) := dk_42 (dk_at dksX0_shelf_0 5 rfl rfl)
theorem dX0_shelf_6 : decode cX0_shelf 6 = .ok (.invokespecial 119, 3) := dk_183 0 119 (dk_at dksX0_shelf_0 6 rfl rfl)
theorem dX0_shelf_9 : decode cX0_shelf 9 = .ok (.invokevirtual 122, 3) := dk_182 0 122 (dk_at dksX0_shelf_0 9 rfl rfl)
theorem dX0_shelf_12 : decode cX0_shelf 12 = .ok (.invokevirtual 160, 3) := dk_182 0 160 (dk_at dksX0_shelf_0 12 rfl rfl)
theorem dX0_shelf_15 : decode cX0_shelf 15 = .ok (.aload_n 0, 1) := dk_42 (dk_at dksX0_shelf_0 15 rfl rfl)
theorem dX0_shelf_16 : decode cX0_shelf 16 = .ok (.dup, 1) := dk_89 (dk_at dksX0_shelf_0 16 rfl rfl)
theorem dX0_shelf_17 : decode cX0_shelf 17 = .ok (.getfield 111, 3) := dk_180 0 111 (dk_at dksX0_shelf_0 17 rfl rfl)
theorem dX0_shelf_20 : decode cX0_shelf 20 = .ok (.iconst 1, 1) := dk_4 (dk_at dksX0_shelf_0 20 rfl rfl)
theorem dX0_shelf_21 : decode cX0_shelf 21 = .ok (.iadd, 1) := dk_96 (dk_at dksX0_shelf_0 21 rfl rfl)
theorem dX0_shelf_22 : decode cX0_shelf 22 = .ok (.putfield 111, 3) := dk_181 0 111 (dk_at dksX0_shelf_1 0 rfl rfl)
theorem dX0_shelf_25 : decode cX0_shelf 25 = .ok (.aload_n 0, 1) := dk_42 (dk_at dksX0_shelf_1 3 rfl rfl)
theorem dX0_shelf_26 : decode cX0_shelf 26 = .ok (.iconst 0, 1) := dk_3 (dk_at dksX0_shelf_1 4 rfl rfl)
theorem dX0_shelf_27 : decode cX0_shelf 27 = .ok (.putfield 164, 3) := dk_181 0 164 (dk_at dksX0_shelf_1 5 rfl rfl)
theorem dX0_shelf_30 : decode cX0_shelf 30 = .ok (.aload_n 0, 1) := dk_42 (dk_at dksX0_shelf_1 8 rfl rfl)
theorem dX0_shelf_31 : decode cX0_shelf 31 = .ok (.iconst 0, 1) := dk_3 (dk_at dksX0_shelf_1 9 rfl rfl)
theorem dX0_shelf_32 : decode cX0_shelf 32 = .ok (.putfield 114, 3) := dk_181 0 114 (dk_at dksX0_shelf_1 10 rfl rfl)
theorem dX0_shelf_35 : decode cX0_shelf 35 = .ok (.aload_n 0, 1) := dk_42 (dk_at dksX0_shelf_1 13 rfl rfl)
theorem dX0_shelf_36 : decode cX0_shelf 36 = .ok (.getfield 16, 3) := dk_180 0 16 (dk_at dksX0_shelf_1 14 rfl rfl)
theorem dX0_shelf_39 : decode cX0_shelf 39 = .ok (.getfield 167, 3) := dk_180 0 167 (dk_at dksX0_shelf_1 17 rfl rfl)
theorem dX0_shelf_42 : decode cX0_shelf 42 = .ok (.ireturn, 1) := dk_172 (dk_at dksX0_shelf_1 20 rfl rfl)
theorem dX0_shelf_43 : decode cX0_shelf 43 = .ok (.astore_n 1, 1) := dk_76 (dk_at dksX0_shelf_1 21 rfl rfl)
theorem dX0_shelf_44 : decode cX0_shelf 44 = .ok (.bipush (-103), 2) := dk_16 153 (dk_at dksX0_shelf_1 22 rfl rfl)
theorem dX0_shelf_46 : decode cX0_shelf 46 = .ok (.ireturn, 1) := dk_172 (dk_at dksX0_shelf_2 0 rfl rfl)
abbrev cX0_fill : ByteArray := prog_1_method_13_code
def yX0_fill : MethodName := ⟨RX0, "fill", "(LCreditShelf$Reader;)V"⟩
def dkwX0_fill_2 : List UInt8 := [180, 0, 147, 28, 182, 0, 153, 192, 0, 69, 182, 0, 157, 87, 132, 2, 1, 167, 255, 226, 177]
abbrev dktX0_fill_2 : List UInt8 := dkwX0_fill_2 ++ []
def dkwX0_fill_1 : List UInt8 := [181, 0, 16, 42, 3, 181, 0, 144, 3, 61, 28, 43, 180, 0, 147, 182, 0, 150, 162, 0, 25, 42, 43]
abbrev dktX0_fill_1 : List UInt8 := dkwX0_fill_1 ++ dktX0_fill_2
def dkwX0_fill_0 : List UInt8 := [42, 187, 0, 13, 89, 183, 0, 15, 43, 180, 0, 131, 43, 180, 0, 134, 43, 180, 0, 137, 182, 0, 140]
abbrev dktX0_fill_0 : List UInt8 := dkwX0_fill_0 ++ dktX0_fill_1
theorem dksX0_fill_0 : cX0_fill.data.toList.drop 0 = dktX0_fill_0 := by decide +kernel
theorem dksX0_fill_1 : cX0_fill.data.toList.drop 23 = dktX0_fill_1 := dk_seg dksX0_fill_0 23 rfl rfl
theorem dksX0_fill_2 : cX0_fill.data.toList.drop 46 = dktX0_fill_2 := dk_seg dksX0_fill_1 23 rfl rfl
theorem dX0_fill_0 : decode cX0_fill 0 = .ok (.aload_n 0, 1) := dk_42 (dk_at dksX0_fill_0 0 rfl rfl)
theorem dX0_fill_1 : decode cX0_fill 1 = .ok (.new 13, 3) := dk_187 0 13 (dk_at dksX0_fill_0 1 rfl rfl)
theorem dX0_fill_4 : decode cX0_fill 4 = .ok (.dup, 1) := dk_89 (dk_at dksX0_fill_0 4 rfl rfl)
theorem dX0_fill_5 : decode cX0_fill 5 = .ok (.invokespecial 15, 3) := dk_183 0 15 (dk_at dksX0_fill_0 5 rfl rfl)
theorem dX0_fill_8 : decode cX0_fill 8 = .ok (.aload_n 1, 1) := dk_43 (dk_at dksX0_fill_0 8 rfl rfl)
theorem dX0_fill_9 : decode cX0_fill 9 = .ok (.getfield 131, 3) := dk_180 0 131 (dk_at dksX0_fill_0 9 rfl rfl)
theorem dX0_fill_12 : decode cX0_fill 12 = .ok (.aload_n 1, 1) := dk_43 (dk_at dksX0_fill_0 12 rfl rfl)
theorem dX0_fill_13 : decode cX0_fill 13 = .ok (.getfield 134, 3) := dk_180 0 134 (dk_at dksX0_fill_0 13 rfl rfl)
theorem dX0_fill_16 : decode cX0_fill 16 = .ok (.aload_n 1, 1) := dk_43 (dk_at dksX0_fill_0 16 rfl rfl)
theorem dX0_fill_17 : decode cX0_fill 17 = .ok (.getfield 137, 3) := dk_180 0 137 (dk_at dksX0_fill_0 17 rfl rfl)
theorem dX0_fill_20 : decode cX0_fill 20 = .ok (.invokevirtual 140, 3) := dk_182 0 140 (dk_at dksX0_fill_0 20 rfl rfl)
theorem dX0_fill_23 : decode cX0_fill 23 = .ok (.putfield 16, 3) := dk_181 0 16 (dk_at dksX0_fill_1 0 rfl rfl)
theorem dX0_fill_26 : decode cX0_fill 26 = .ok (.aload_n 0, 1) := dk_42 (dk_at dksX0_fill_1 3 rfl rfl)
theorem dX0_fill_27 : decode cX0_fill 27 = .ok (.iconst 0, 1) := dk_3 (dk_at dksX0_fill_1 4 rfl rfl)
theorem dX0_fill_28 : decode cX0_fill 28 = .ok (.putfield 144, 3) := dk_181 0 144 (dk_at dksX0_fill_1 5 rfl rfl)
theorem dX0_fill_31 : decode cX0_fill 31 = .ok (.iconst 0, 1) := dk_3 (dk_at dksX0_fill_1 8 rfl rfl)
theorem dX0_fill_32 : decode cX0_fill 32 = .ok (.istore_n 2, 1) := dk_61 (dk_at dksX0_fill_1 9 rfl rfl)
theorem dX0_fill_33 : decode cX0_fill 33 = .ok (.iload_n 2, 1) := dk_28 (dk_at dksX0_fill_1 10 rfl rfl)
theorem dX0_fill_34 : decode cX0_fill 34 = .ok (.aload_n 1, 1) := dk_43 (dk_at dksX0_fill_1 11 rfl rfl)
theorem dX0_fill_35 : decode cX0_fill 35 = .ok (.getfield 147, 3) := dk_180 0 147 (dk_at dksX0_fill_1 12 rfl rfl)
theorem dX0_fill_38 : decode cX0_fill 38 = .ok (.invokevirtual 150, 3) := dk_182 0 150 (dk_at dksX0_fill_1 15 rfl rfl)
theorem dX0_fill_41 : decode cX0_fill 41 = .ok (.if_icmp .ge 25, 3) := dk_162 0 25 (dk_at dksX0_fill_1 18 rfl rfl)
theorem dX0_fill_44 : decode cX0_fill 44 = .ok (.aload_n 0, 1) := dk_42 (dk_at dksX0_fill_1 21 rfl rfl)
theorem dX0_fill_45 : decode cX0_fill 45 = .ok (.aload_n 1, 1) := dk_43 (dk_at dksX0_fill_1 22 rfl rfl)
theorem dX0_fill_46 : decode cX0_fill 46 = .ok (.getfield 147, 3) := dk_180 0 147 (dk_at dksX0_fill_2 0 rfl rfl)
theorem dX0_fill_49 : decode cX0_fill 49 = .ok (.iload_n 2, 1) := dk_28 (dk_at dksX0_fill_2 3 rfl rfl)
theorem dX0_fill_50 : decode cX0_fill 50 = .ok (.invokevirtual 153, 3) := dk_182 0 153 (dk_at dksX0_fill_2 4 rfl rfl)
theorem dX0_fill_53 : decode cX0_fill 53 = .ok (.checkcast 69, 3) := dk_192 0 69 (dk_at dksX0_fill_2 7 rfl rfl)
theorem dX0_fill_56 : decode cX0_fill 56 = .ok (.invokevirtual 157, 3) := dk_182 0 157 (dk_at dksX0_fill_2 10 rfl rfl)
theorem dX0_fill_59 : decode cX0_fill 59 = .ok (.pop, 1) := dk_87 (dk_at dksX0_fill_2 13 rfl rfl)
theorem dX0_fill_60 : decode cX0_fill 60 = .ok (.iinc 2 1, 3) := dk_132 2 1 (dk_at dksX0_fill_2 14 rfl rfl)
theorem dX0_fill_63 : decode cX0_fill 63 = .ok (.goto (-30), 3) := dk_167 255 226 (dk_at dksX0_fill_2 17 rfl rfl)
theorem dX0_fill_66 : decode cX0_fill 66 = .ok (.return_, 1) := dk_177 (dk_at dksX0_fill_2 20 rfl rfl)
abbrev cX0_putNew : ByteArray := prog_1_method_26_code
def yX0_putNew : MethodName := ⟨RX0, "putNew", "(LCreditShelf$Entry;)I"⟩
def dkwX0_putNew_0 : List UInt8 := [42, 43, 180, 0, 72, 182, 0, 209, 42, 180, 0, 16, 43, 182, 0, 213, 172]
abbrev dktX0_putNew_0 : List UInt8 := dkwX0_putNew_0 ++ []
theorem dksX0_putNew_0 : cX0_putNew.data.toList.drop 0 = dktX0_putNew_0 := by decide +kernel
theorem dX0_putNew_0 : decode cX0_putNew 0 = .ok (.aload_n 0, 1) := dk_42 (dk_at dksX0_putNew_0 0 rfl rfl)
theorem dX0_putNew_1 : decode cX0_putNew 1 = .ok (.aload_n 1, 1) := dk_43 (dk_at dksX0_putNew_0 1 rfl rfl)
theorem dX0_putNew_2 : decode cX0_putNew 2 = .ok (.getfield 72, 3) := dk_180 0 72 (dk_at dksX0_putNew_0 2 rfl rfl)
theorem dX0_putNew_5 : decode cX0_putNew 5 = .ok (.invokevirtual 209, 3) := dk_182 0 209 (dk_at dksX0_putNew_0 5 rfl rfl)
theorem dX0_putNew_8 : decode cX0_putNew 8 = .ok (.aload_n 0, 1) := dk_42 (dk_at dksX0_putNew_0 8 rfl rfl)
theorem dX0_putNew_9 : decode cX0_putNew 9 = .ok (.getfield 16, 3) := dk_180 0 16 (dk_at dksX0_putNew_0 9 rfl rfl)
theorem dX0_putNew_12 : decode cX0_putNew 12 = .ok (.aload_n 1, 1) := dk_43 (dk_at dksX0_putNew_0 12 rfl rfl)
theorem dX0_putNew_13 : decode cX0_putNew 13 = .ok (.invokevirtual 213, 3) := dk_182 0 213 (dk_at dksX0_putNew_0 13 rfl rfl)
theorem dX0_putNew_16 : decode cX0_putNew 16 = .ok (.ireturn, 1) := dk_172 (dk_at dksX0_putNew_0 16 rfl rfl)
abbrev cX0_write : ByteArray := prog_1_method_25_code
def yX0_write : MethodName := ⟨RX0, "write", "(I)V"⟩
def dkwX0_write_1 : List UInt8 := [4, 96, 181, 0, 144, 177]
abbrev dktX0_write_1 : List UInt8 := dkwX0_write_1 ++ []
def dkwX0_write_0 : List UInt8 := [42, 180, 0, 144, 16, 60, 162, 0, 23, 42, 180, 0, 24, 42, 180, 0, 144, 27, 79, 42, 89, 180, 0, 144]
abbrev dktX0_write_0 : List UInt8 := dkwX0_write_0 ++ dktX0_write_1
theorem dksX0_write_0 : cX0_write.data.toList.drop 0 = dktX0_write_0 := by decide +kernel
theorem dksX0_write_1 : cX0_write.data.toList.drop 24 = dktX0_write_1 := dk_seg dksX0_write_0 24 rfl rfl
theorem dX0_write_0 : decode cX0_write 0 = .ok (.aload_n 0, 1) := dk_42 (dk_at dksX0_write_0 0 rfl rfl)
theorem dX0_write_1 : decode cX0_write 1 = .ok (.getfield 144, 3) := dk_180 0 144 (dk_at dksX0_write_0 1 rfl rfl)
theorem dX0_write_4 : decode cX0_write 4 = .ok (.bipush 60, 2) := dk_16 60 (dk_at dksX0_write_0 4 rfl rfl)
theorem dX0_write_6 : decode cX0_write 6 = .ok (.if_icmp .ge 23, 3) := dk_162 0 23 (dk_at dksX0_write_0 6 rfl rfl)
theorem dX0_write_9 : decode cX0_write 9 = .ok (.aload_n 0, 1) := dk_42 (dk_at dksX0_write_0 9 rfl rfl)
theorem dX0_write_10 : decode cX0_write 10 = .ok (.getfield 24, 3) := dk_180 0 24 (dk_at dksX0_write_0 10 rfl rfl)
theorem dX0_write_13 : decode cX0_write 13 = .ok (.aload_n 0, 1) := dk_42 (dk_at dksX0_write_0 13 rfl rfl)
theorem dX0_write_14 : decode cX0_write 14 = .ok (.getfield 144, 3) := dk_180 0 144 (dk_at dksX0_write_0 14 rfl rfl)
theorem dX0_write_17 : decode cX0_write 17 = .ok (.iload_n 1, 1) := dk_27 (dk_at dksX0_write_0 17 rfl rfl)
theorem dX0_write_18 : decode cX0_write 18 = .ok (.iastore, 1) := dk_79 (dk_at dksX0_write_0 18 rfl rfl)
theorem dX0_write_19 : decode cX0_write 19 = .ok (.aload_n 0, 1) := dk_42 (dk_at dksX0_write_0 19 rfl rfl)
theorem dX0_write_20 : decode cX0_write 20 = .ok (.dup, 1) := dk_89 (dk_at dksX0_write_0 20 rfl rfl)
theorem dX0_write_21 : decode cX0_write 21 = .ok (.getfield 144, 3) := dk_180 0 144 (dk_at dksX0_write_0 21 rfl rfl)
theorem dX0_write_24 : decode cX0_write 24 = .ok (.iconst 1, 1) := dk_4 (dk_at dksX0_write_1 0 rfl rfl)
theorem dX0_write_25 : decode cX0_write 25 = .ok (.iadd, 1) := dk_96 (dk_at dksX0_write_1 1 rfl rfl)
theorem dX0_write_26 : decode cX0_write 26 = .ok (.putfield 144, 3) := dk_181 0 144 (dk_at dksX0_write_1 2 rfl rfl)
theorem dX0_write_29 : decode cX0_write 29 = .ok (.return_, 1) := dk_177 (dk_at dksX0_write_1 5 rfl rfl)
abbrev cX0_sizeOf : ByteArray := prog_1_method_6_code
def yX0_sizeOf : MethodName := ⟨RX0, "sizeOf", "(LCreditShelf$Entry;)I"⟩
def dkwX0_sizeOf_1 : List UInt8 := [96, 172]
abbrev dktX0_sizeOf_1 : List UInt8 := dkwX0_sizeOf_1 ++ []
def dkwX0_sizeOf_0 : List UInt8 := [42, 199, 0, 7, 3, 167, 0, 20, 4, 42, 180, 0, 79, 184, 0, 83, 96, 42, 180, 0, 87, 184, 0, 83]
abbrev dktX0_sizeOf_0 : List UInt8 := dkwX0_sizeOf_0 ++ dktX0_sizeOf_1
theorem dksX0_sizeOf_0 : cX0_sizeOf.data.toList.drop 0 = dktX0_sizeOf_0 := by decide +kernel
theorem dksX0_sizeOf_1 : cX0_sizeOf.data.toList.drop 24 = dktX0_sizeOf_1 := dk_seg dksX0_sizeOf_0 24 rfl rfl
theorem dX0_sizeOf_0 : decode cX0_sizeOf 0 = .ok (.aload_n 0, 1) := dk_42 (dk_at dksX0_sizeOf_0 0 rfl rfl)
theorem dX0_sizeOf_1 : decode cX0_sizeOf 1 = .ok (.ifnonnull 7, 3) := dk_199 0 7 (dk_at dksX0_sizeOf_0 1 rfl rfl)
theorem dX0_sizeOf_4 : decode cX0_sizeOf 4 = .ok (.iconst 0, 1) := dk_3 (dk_at dksX0_sizeOf_0 4 rfl rfl)
theorem dX0_sizeOf_5 : decode cX0_sizeOf 5 = .ok (.goto 20, 3) := dk_167 0 20 (dk_at dksX0_sizeOf_0 5 rfl rfl)
theorem dX0_sizeOf_8 : decode cX0_sizeOf 8 = .ok (.iconst 1, 1) := dk_4 (dk_at dksX0_sizeOf_0 8 rfl rfl)
theorem dX0_sizeOf_9 : decode cX0_sizeOf 9 = .ok (.aload_n 0, 1) := dk_42 (dk_at dksX0_sizeOf_0 9 rfl rfl)
theorem dX0_sizeOf_10 : decode cX0_sizeOf 10 = .ok (.getfield 79, 3) := dk_180 0 79 (dk_at dksX0_sizeOf_0 10 rfl rfl)
theorem dX0_sizeOf_13 : decode cX0_sizeOf 13 = .ok (.invokestatic 83, 3) := dk_184 0 83 (dk_at dksX0_sizeOf_0 13 rfl rfl)
theorem dX0_sizeOf_16 : decode cX0_sizeOf 16 = .ok (.iadd, 1) := dk_96 (dk_at dksX0_sizeOf_0 16 rfl rfl)
theorem dX0_sizeOf_17 : decode cX0_sizeOf 17 = .ok (.aload_n 0, 1) := dk_42 (dk_at dksX0_sizeOf_0 17 rfl rfl)
theorem dX0_sizeOf_18 : decode cX0_sizeOf 18 = .ok (.getfield 87, 3) := dk_180 0 87 (dk_at dksX0_sizeOf_0 18 rfl rfl)
theorem dX0_sizeOf_21 : decode cX0_sizeOf 21 = .ok (.invokestatic 83, 3) := dk_184 0 83 (dk_at dksX0_sizeOf_0 21 rfl rfl)
theorem dX0_sizeOf_24 : decode cX0_sizeOf 24 = .ok (.iadd, 1) := dk_96 (dk_at dksX0_sizeOf_1 0 rfl rfl)
theorem dX0_sizeOf_25 : decode cX0_sizeOf 25 = .ok (.ireturn, 1) := dk_172 (dk_at dksX0_sizeOf_1 1 rfl rfl)
abbrev cX0_entry : ByteArray := prog_1_method_19_code
def yX0_entry : MethodName := ⟨RX0, "entry", "(II)I"⟩
def dkwX0_entry_1 : List UInt8 := [184, 0, 3, 153, 0, 12, 42, 45, 28, 182, 0, 191, 167, 0, 5, 16, 154, 172]
abbrev dktX0_entry_1 : List UInt8 := dkwX0_entry_1 ++ []
def dkwX0_entry_0 : List UInt8 := [42, 180, 0, 16, 27, 182, 0, 188, 78, 45, 199, 0, 8, 16, 155, 167, 0, 24, 28, 3, 16, 7]
abbrev dktX0_entry_0 : List UInt8 := dkwX0_entry_0 ++ dktX0_entry_1
theorem dksX0_entry_0 : cX0_entry.data.toList.drop 0 = dktX0_entry_0 := by decide +kernel
theorem dksX0_entry_1 : cX0_entry.data.toList.drop 22 = dktX0_entry_1 := dk_seg dksX0_entry_0 22 rfl rfl
theorem dX0_entry_0 : decode cX0_entry 0 = .ok (.aload_n 0, 1) := dk_42 (dk_at dksX0_entry_0 0 rfl rfl)
theorem dX0_entry_1 : decode cX0_entry 1 = .ok (.getfield 16, 3) := dk_180 0 16 (dk_at dksX0_entry_0 1 rfl rfl)
theorem dX0_entry_4 : decode cX0_entry 4 = .ok (.iload_n 1, 1) := dk_27 (dk_at dksX0_entry_0 4 rfl rfl)
theorem dX0_entry_5 : decode cX0_entry 5 = .ok (.invokevirtual 188, 3) := dk_182 0 188 (dk_at dksX0_entry_0 5 rfl rfl)
theorem dX0_entry_8 : decode cX0_entry 8 = .ok (.astore_n 3, 1) := dk_78 (dk_at dksX0_entry_0 8 rfl rfl)
theorem dX0_entry_9 : decode cX0_entry 9 = .ok (.aload_n 3, 1) := dk_45 (dk_at dksX0_entry_0 9 rfl rfl)
theorem dX0_entry_10 : decode cX0_entry 10 = .ok (.ifnonnull 8, 3) := dk_199 0 8 (dk_at dksX0_entry_0 10 rfl rfl)
theorem dX0_entry_13 : decode cX0_entry 13 = .ok (.bipush (-101), 2) := dk_16 155 (dk_at dksX0_entry_0 13 rfl rfl)
theorem dX0_entry_15 : decode cX0_entry 15 = .ok (.goto 24, 3) := dk_167 0 24 (dk_at dksX0_entry_0 15 rfl rfl)
theorem dX0_entry_18 : decode cX0_entry 18 = .ok (.iload_n 2, 1) := dk_28 (dk_at dksX0_entry_0 18 rfl rfl)
theorem dX0_entry_19 : decode cX0_entry 19 = .ok (.iconst 0, 1) := dk_3 (dk_at dksX0_entry_0 19 rfl rfl)
theorem dX0_entry_20 : decode cX0_entry 20 = .ok (.bipush 7, 2) := dk_16 7 (dk_at dksX0_entry_0 20 rfl rfl)
theorem dX0_entry_22 : decode cX0_entry 22 = .ok (.invokestatic 3, 3) := dk_184 0 3 (dk_at dksX0_entry_1 0 rfl rfl)
theorem dX0_entry_25 : decode cX0_entry 25 = .ok (.ifCond .eq 12, 3) := dk_153 0 12 (dk_at dksX0_entry_1 3 rfl rfl)
theorem dX0_entry_28 : decode cX0_entry 28 = .ok (.aload_n 0, 1) := dk_42 (dk_at dksX0_entry_1 6 rfl rfl)
theorem dX0_entry_29 : decode cX0_entry 29 = .ok (.aload_n 3, 1) := dk_45 (dk_at dksX0_entry_1 7 rfl rfl)
theorem dX0_entry_30 : decode cX0_entry 30 = .ok (.iload_n 2, 1) := dk_28 (dk_at dksX0_entry_1 8 rfl rfl)
theorem dX0_entry_31 : decode cX0_entry 31 = .ok (.invokevirtual 191, 3) := dk_182 0 191 (dk_at dksX0_entry_1 9 rfl rfl)
theorem dX0_entry_34 : decode cX0_entry 34 = .ok (.goto 5, 3) := dk_167 0 5 (dk_at dksX0_entry_1 12 rfl rfl)
theorem dX0_entry_37 : decode cX0_entry 37 = .ok (.bipush (-102), 2) := dk_16 154 (dk_at dksX0_entry_1 15 rfl rfl)
theorem dX0_entry_39 : decode cX0_entry 39 = .ok (.ireturn, 1) := dk_172 (dk_at dksX0_entry_1 17 rfl rfl)
abbrev cX0_entryTold : ByteArray := prog_1_method_18_code
def yX0_entryTold : MethodName := ⟨RX0, "entryTold", "(LCreditShelf$Entry;I)I"⟩
def dkwX0_entryTold_5 : List UInt8 := [180, 0, 185, 43, 180, 0, 72, 182, 0, 174, 172]
abbrev dktX0_entryTold_5 : List UInt8 := dkwX0_entryTold_5 ++ []
def dkwX0_entryTold_4 : List UInt8 := [182, 0, 178, 172, 42, 42, 43, 180, 0, 72, 182, 0, 181, 182, 0, 178, 172, 42, 42, 180, 0, 16]
abbrev dktX0_entryTold_4 : List UInt8 := dkwX0_entryTold_4 ++ dktX0_entryTold_5
def dkwX0_entryTold_3 : List UInt8 := [4, 100, 172, 43, 184, 0, 83, 172, 42, 43, 180, 0, 79, 182, 0, 178, 172, 42, 43, 180, 0, 87]
abbrev dktX0_entryTold_3 : List UInt8 := dkwX0_entryTold_3 ++ dktX0_entryTold_4
def dkwX0_entryTold_2 : List UInt8 := [43, 182, 0, 99, 172, 43, 180, 0, 76, 172, 42, 180, 0, 16, 43, 180, 0, 72, 182, 0, 170, 182, 0, 150]
abbrev dktX0_entryTold_2 : List UInt8 := dkwX0_entryTold_2 ++ dktX0_entryTold_3
def dkwX0_entryTold_1 : List UInt8 := [170, 0, 0, 0, 0, 0, 106, 0, 0, 0, 0, 0, 0, 0, 6, 0, 0, 0, 43, 0, 0, 0, 48, 0, 0, 0, 53, 0, 0, 0, 70, 0, 0, 0, 75, 0, 0, 0, 84, 0, 0, 0, 93]
abbrev dktX0_entryTold_1 : List UInt8 := dkwX0_entryTold_1 ++ dktX0_entryTold_2
def dkwX0_entryTold_0 : List UInt8 := [28]
abbrev dktX0_entryTold_0 : List UInt8 := dkwX0_entryTold_0 ++ dktX0_entryTold_1
theorem dksX0_entryTold_0 : cX0_entryTold.data.toList.drop 0 = dktX0_entryTold_0 := by decide +kernel
theorem dksX0_entryTold_1 : cX0_entryTold.data.toList.drop 1 = dktX0_entryTold_1 := dk_seg dksX0_entryTold_0 1 rfl rfl
theorem dksX0_entryTold_2 : cX0_entryTold.data.toList.drop 44 = dktX0_entryTold_2 := dk_seg dksX0_entryTold_1 43 rfl rfl
theorem dksX0_entryTold_3 : cX0_entryTold.data.toList.drop 68 = dktX0_entryTold_3 := dk_seg dksX0_entryTold_2 24 rfl rfl
theorem dksX0_entryTold_4 : cX0_entryTold.data.toList.drop 90 = dktX0_entryTold_4 := dk_seg dksX0_entryTold_3 22 rfl rfl
theorem dksX0_entryTold_5 : cX0_entryTold.data.toList.drop 112 = dktX0_entryTold_5 := dk_seg dksX0_entryTold_4 22 rfl rfl
theorem dX0_entryTold_0 : decode cX0_entryTold 0 = .ok (.iload_n 2, 1) := dk_28 (dk_at dksX0_entryTold_0 0 rfl rfl)
theorem dX0_entryTold_1 : decode cX0_entryTold 1 = .ok (.tableswitch 106 0 6 #[43, 48, 53, 70, 75, 84, 93], 43) := by decide +kernel
theorem dX0_entryTold_44 : decode cX0_entryTold 44 = .ok (.aload_n 1, 1) := dk_43 (dk_at dksX0_entryTold_2 0 rfl rfl)
theorem dX0_entryTold_45 : decode cX0_entryTold 45 = .ok (.invokevirtual 99, 3) := dk_182 0 99 (dk_at dksX0_entryTold_2 1 rfl rfl)
theorem dX0_entryTold_48 : decode cX0_entryTold 48 = .ok (.ireturn, 1) := dk_172 (dk_at dksX0_entryTold_2 4 rfl rfl)
theorem dX0_entryTold_49 : decode cX0_entryTold 49 = .ok (.aload_n 1, 1) := dk_43 (dk_at dksX0_entryTold_2 5 rfl rfl)
theorem dX0_entryTold_50 : decode cX0_entryTold 50 = .ok (.getfield 76, 3) := dk_180 0 76 (dk_at dksX0_entryTold_2 6 rfl rfl)
theorem dX0_entryTold_53 : decode cX0_entryTold 53 = .ok (.ireturn, 1) := dk_172 (dk_at dksX0_entryTold_2 9 rfl rfl)
theorem dX0_entryTold_54 : decode cX0_entryTold 54 = .ok (.aload_n 0, 1) := dk_42 (dk_at dksX0_entryTold_2 10 rfl rfl)
theorem dX0_entryTold_55 : decode cX0_entryTold 55 = .ok (.getfield 16, 3) := dk_180 0 16 (dk_at dksX0_entryTold_2 11 rfl rfl)
theorem dX0_entryTold_58 : decode cX0_entryTold 58 = .ok (.aload_n 1, 1) := dk_43 (dk_at dksX0_entryTold_2 14 rfl rfl)
theorem dX0_entryTold_59 : decode cX0_entryTold 59 = .ok (.getfield 72, 3) := dk_180 0 72 (dk_at dksX0_entryTold_2 15 rfl rfl)
theorem dX0_entryTold_62 : decode cX0_entryTold 62 = .ok (.invokevirtual 170, 3) := dk_182 0 170 (dk_at dksX0_entryTold_2 18 rfl rfl)
theorem dX0_entryTold_65 : decode cX0_entryTold 65 = .ok (.invokevirtual 150, 3) := dk_182 0 150 (dk_at dksX0_entryTold_2 21 rfl rfl)
theorem dX0_entryTold_68 : decode cX0_entryTold 68 = .ok (.iconst 1, 1) := dk_4 (dk_at dksX0_entryTold_3 0 rfl rfl)
theorem dX0_entryTold_69 : decode cX0_entryTold 69 = .ok (.isub, 1) := dk_100 (dk_at dksX0_entryTold_3 1 rfl rfl)
theorem dX0_entryTold_70 : decode cX0_entryTold 70 = .ok (.ireturn, 1) := dk_172 (dk_at dksX0_entryTold_3 2 rfl rfl)
theorem dX0_entryTold_71 : decode cX0_entryTold 71 = .ok (.aload_n 1, 1) := dk_43 (dk_at dksX0_entryTold_3 3 rfl rfl)
theorem dX0_entryTold_72 : decode cX0_entryTold 72 = .ok (.invokestatic 83, 3) := dk_184 0 83 (dk_at dksX0_entryTold_3 4 rfl rfl)
theorem dX0_entryTold_75 : decode cX0_entryTold 75 = .ok (.ireturn, 1) := dk_172 (dk_at dksX0_entryTold_3 7 rfl rfl)
theorem dX0_entryTold_76 : decode cX0_entryTold 76 = .ok (.aload_n 0, 1) := dk_42 (dk_at dksX0_entryTold_3 8 rfl rfl)
theorem dX0_entryTold_77 : decode cX0_entryTold 77 = .ok (.aload_n 1, 1) := dk_43 (dk_at dksX0_entryTold_3 9 rfl rfl)
theorem dX0_entryTold_78 : decode cX0_entryTold 78 = .ok (.getfield 79, 3) := dk_180 0 79 (dk_at dksX0_entryTold_3 10 rfl rfl)
theorem dX0_entryTold_81 : decode cX0_entryTold 81 = .ok (.invokevirtual 178, 3) := dk_182 0 178 (dk_at dksX0_entryTold_3 13 rfl rfl)
theorem dX0_entryTold_84 : decode cX0_entryTold 84 = .ok (.ireturn, 1) := dk_172 (dk_at dksX0_entryTold_3 16 rfl rfl)
theorem dX0_entryTold_85 : decode cX0_entryTold 85 = .ok (.aload_n 0, 1) := dk_42 (dk_at dksX0_entryTold_3 17 rfl rfl)
theorem dX0_entryTold_86 : decode cX0_entryTold 86 = .ok (.aload_n 1, 1) := dk_43 (dk_at dksX0_entryTold_3 18 rfl rfl)
theorem dX0_entryTold_87 : decode cX0_entryTold 87 = .ok (.getfield 87, 3) := dk_180 0 87 (dk_at dksX0_entryTold_3 19 rfl rfl)
theorem dX0_entryTold_90 : decode cX0_entryTold 90 = .ok (.invokevirtual 178, 3) := dk_182 0 178 (dk_at dksX0_entryTold_4 0 rfl rfl)
theorem dX0_entryTold_93 : decode cX0_entryTold 93 = .ok (.ireturn, 1) := dk_172 (dk_at dksX0_entryTold_4 3 rfl rfl)
theorem dX0_entryTold_94 : decode cX0_entryTold 94 = .ok (.aload_n 0, 1) := dk_42 (dk_at dksX0_entryTold_4 4 rfl rfl)
theorem dX0_entryTold_95 : decode cX0_entryTold 95 = .ok (.aload_n 0, 1) := dk_42 (dk_at dksX0_entryTold_4 5 rfl rfl)
theorem dX0_entryTold_96 : decode cX0_entryTold 96 = .ok (.aload_n 1, 1) := dk_43 (dk_at dksX0_entryTold_4 6 rfl rfl)
theorem dX0_entryTold_97 : decode cX0_entryTold 97 = .ok (.getfield 72, 3) := dk_180 0 72 (dk_at dksX0_entryTold_4 7 rfl rfl)
theorem dX0_entryTold_100 : decode cX0_entryTold 100 = .ok (.invokevirtual 181, 3) := dk_182 0 181 (dk_at dksX0_entryTold_4 10 rfl rfl)
theorem dX0_entryTold_103 : decode cX0_entryTold 103 = .ok (.invokevirtual 178, 3) := dk_182 0 178 (dk_at dksX0_entryTold_4 13 rfl rfl)
theorem dX0_entryTold_106 : decode cX0_entryTold 106 = .ok (.ireturn, 1) := dk_172 (dk_at dksX0_entryTold_4 16 rfl rfl)
theorem dX0_entryTold_107 : decode cX0_entryTold 107 = .ok (.aload_n 0, 1) := dk_42 (dk_at dksX0_entryTold_4 17 rfl rfl)
theorem dX0_entryTold_108 : decode cX0_entryTold 108 = .ok (.aload_n 0, 1) := dk_42 (dk_at dksX0_entryTold_4 18 rfl rfl)
theorem dX0_entryTold_109 : decode cX0_entryTold 109 = .ok (.getfield 16, 3) := dk_180 0 16 (dk_at dksX0_entryTold_4 19 rfl rfl)
theorem dX0_entryTold_112 : decode cX0_entryTold 112 = .ok (.getfield 185, 3) := dk_180 0 185 (dk_at dksX0_entryTold_5 0 rfl rfl)
theorem dX0_entryTold_115 : decode cX0_entryTold 115 = .ok (.aload_n 1, 1) := dk_43 (dk_at dksX0_entryTold_5 3 rfl rfl)
theorem dX0_entryTold_116 : decode cX0_entryTold 116 = .ok (.getfield 72, 3) := dk_180 0 72 (dk_at dksX0_entryTold_5 4 rfl rfl)
theorem dX0_entryTold_119 : decode cX0_entryTold 119 = .ok (.invokevirtual 174, 3) := dk_182 0 174 (dk_at dksX0_entryTold_5 7 rfl rfl)
theorem dX0_entryTold_122 : decode cX0_entryTold 122 = .ok (.ireturn, 1) := dk_172 (dk_at dksX0_entryTold_5 10 rfl rfl)
abbrev cX0_keyOf : ByteArray := prog_1_method_15_code
def yX0_keyOf : MethodName := ⟨RX0, "keyOf", "(LCreditShelf$Entry;)I"⟩
def dkwX0_keyOf_0 : List UInt8 := [43, 199, 0, 7, 2, 167, 0, 7, 43, 180, 0, 72, 172]
abbrev dktX0_keyOf_0 : List UInt8 := dkwX0_keyOf_0 ++ []
theorem dksX0_keyOf_0 : cX0_keyOf.data.toList.drop 0 = dktX0_keyOf_0 := by decide +kernel
theorem dX0_keyOf_0 : decode cX0_keyOf 0 = .ok (.aload_n 1, 1) := dk_43 (dk_at dksX0_keyOf_0 0 rfl rfl)
theorem dX0_keyOf_1 : decode cX0_keyOf 1 = .ok (.ifnonnull 7, 3) := dk_199 0 7 (dk_at dksX0_keyOf_0 1 rfl rfl)
theorem dX0_keyOf_4 : decode cX0_keyOf 4 = .ok (.iconst (-1), 1) := dk_2 (dk_at dksX0_keyOf_0 4 rfl rfl)
theorem dX0_keyOf_5 : decode cX0_keyOf 5 = .ok (.goto 7, 3) := dk_167 0 7 (dk_at dksX0_keyOf_0 5 rfl rfl)
theorem dX0_keyOf_8 : decode cX0_keyOf 8 = .ok (.aload_n 1, 1) := dk_43 (dk_at dksX0_keyOf_0 8 rfl rfl)
theorem dX0_keyOf_9 : decode cX0_keyOf 9 = .ok (.getfield 72, 3) := dk_180 0 72 (dk_at dksX0_keyOf_0 9 rfl rfl)
theorem dX0_keyOf_12 : decode cX0_keyOf 12 = .ok (.ireturn, 1) := dk_172 (dk_at dksX0_keyOf_0 12 rfl rfl)
abbrev cX0_above : ByteArray := prog_1_method_16_code
def yX0_above : MethodName := ⟨RX0, "above", "(I)LCreditShelf$Entry;"⟩
def dkwX0_above_1 : List UInt8 := [182, 0, 150, 5, 100, 182, 0, 153, 192, 0, 69, 176]
abbrev dktX0_above_1 : List UInt8 := dkwX0_above_1 ++ []
def dkwX0_above_0 : List UInt8 := [42, 180, 0, 16, 27, 182, 0, 170, 77, 44, 182, 0, 150, 5, 162, 0, 7, 1, 167, 0, 16, 44, 44]
abbrev dktX0_above_0 : List UInt8 := dkwX0_above_0 ++ dktX0_above_1
theorem dksX0_above_0 : cX0_above.data.toList.drop 0 = dktX0_above_0 := by decide +kernel
theorem dksX0_above_1 : cX0_above.data.toList.drop 23 = dktX0_above_1 := dk_seg dksX0_above_0 23 rfl rfl
theorem dX0_above_0 : decode cX0_above 0 = .ok (.aload_n 0, 1) := dk_42 (dk_at dksX0_above_0 0 rfl rfl)
theorem dX0_above_1 : decode cX0_above 1 = .ok (.getfield 16, 3) := dk_180 0 16 (dk_at dksX0_above_0 1 rfl rfl)
theorem dX0_above_4 : decode cX0_above 4 = .ok (.iload_n 1, 1) := dk_27 (dk_at dksX0_above_0 4 rfl rfl)
theorem dX0_above_5 : decode cX0_above 5 = .ok (.invokevirtual 170, 3) := dk_182 0 170 (dk_at dksX0_above_0 5 rfl rfl)
theorem dX0_above_8 : decode cX0_above 8 = .ok (.astore_n 2, 1) := dk_77 (dk_at dksX0_above_0 8 rfl rfl)
theorem dX0_above_9 : decode cX0_above 9 = .ok (.aload_n 2, 1) := dk_44 (dk_at dksX0_above_0 9 rfl rfl)
theorem dX0_above_10 : decode cX0_above 10 = .ok (.invokevirtual 150, 3) := dk_182 0 150 (dk_at dksX0_above_0 10 rfl rfl)
theorem dX0_above_13 : decode cX0_above 13 = .ok (.iconst 2, 1) := dk_5 (dk_at dksX0_above_0 13 rfl rfl)
theorem dX0_above_14 : decode cX0_above 14 = .ok (.if_icmp .ge 7, 3) := dk_162 0 7 (dk_at dksX0_above_0 14 rfl rfl)
theorem dX0_above_17 : decode cX0_above 17 = .ok (.aconst_null, 1) := dk_1 (dk_at dksX0_above_0 17 rfl rfl)
theorem dX0_above_18 : decode cX0_above 18 = .ok (.goto 16, 3) := dk_167 0 16 (dk_at dksX0_above_0 18 rfl rfl)
theorem dX0_above_21 : decode cX0_above 21 = .ok (.aload_n 2, 1) := dk_44 (dk_at dksX0_above_0 21 rfl rfl)
theorem dX0_above_22 : decode cX0_above 22 = .ok (.aload_n 2, 1) := dk_44 (dk_at dksX0_above_0 22 rfl rfl)
theorem dX0_above_23 : decode cX0_above 23 = .ok (.invokevirtual 150, 3) := dk_182 0 150 (dk_at dksX0_above_1 0 rfl rfl)
theorem dX0_above_26 : decode cX0_above 26 = .ok (.iconst 2, 1) := dk_5 (dk_at dksX0_above_1 3 rfl rfl)
theorem dX0_above_27 : decode cX0_above 27 = .ok (.isub, 1) := dk_100 (dk_at dksX0_above_1 4 rfl rfl)
theorem dX0_above_28 : decode cX0_above 28 = .ok (.invokevirtual 153, 3) := dk_182 0 153 (dk_at dksX0_above_1 5 rfl rfl)
theorem dX0_above_31 : decode cX0_above 31 = .ok (.checkcast 69, 3) := dk_192 0 69 (dk_at dksX0_above_1 8 rfl rfl)
theorem dX0_above_34 : decode cX0_above 34 = .ok (.areturn, 1) := dk_176 (dk_at dksX0_above_1 11 rfl rfl)
abbrev cX0_lessThan : ByteArray := prog_1_method_17_code
def yX0_lessThan : MethodName := ⟨RX0, "lessThan", "(LCreditShelf$Entry;I)I"⟩
def dkwX0_lessThan_1 : List UInt8 := [182, 0, 174, 96, 43, 180, 0, 72, 28, 162, 0, 7, 4, 167, 0, 4, 3, 96, 172]
abbrev dktX0_lessThan_1 : List UInt8 := dkwX0_lessThan_1 ++ []
def dkwX0_lessThan_0 : List UInt8 := [43, 199, 0, 7, 3, 167, 0, 36, 42, 43, 180, 0, 79, 28, 182, 0, 174, 42, 43, 180, 0, 87, 28]
abbrev dktX0_lessThan_0 : List UInt8 := dkwX0_lessThan_0 ++ dktX0_lessThan_1
theorem dksX0_lessThan_0 : cX0_lessThan.data.toList.drop 0 = dktX0_lessThan_0 := by decide +kernel
theorem dksX0_lessThan_1 : cX0_lessThan.data.toList.drop 23 = dktX0_lessThan_1 := dk_seg dksX0_lessThan_0 23 rfl rfl
theorem dX0_lessThan_0 : decode cX0_lessThan 0 = .ok (.aload_n 1, 1) := dk_43 (dk_at dksX0_lessThan_0 0 rfl rfl)
theorem dX0_lessThan_1 : decode cX0_lessThan 1 = .ok (.ifnonnull 7, 3) := dk_199 0 7 (dk_at dksX0_lessThan_0 1 rfl rfl)
theorem dX0_lessThan_4 : decode cX0_lessThan 4 = .ok (.iconst 0, 1) := dk_3 (dk_at dksX0_lessThan_0 4 rfl rfl)
theorem dX0_lessThan_5 : decode cX0_lessThan 5 = .ok (.goto 36, 3) := dk_167 0 36 (dk_at dksX0_lessThan_0 5 rfl rfl)
theorem dX0_lessThan_8 : decode cX0_lessThan 8 = .ok (.aload_n 0, 1) := dk_42 (dk_at dksX0_lessThan_0 8 rfl rfl)
theorem dX0_lessThan_9 : decode cX0_lessThan 9 = .ok (.aload_n 1, 1) := dk_43 (dk_at dksX0_lessThan_0 9 rfl rfl)
theorem dX0_lessThan_10 : decode cX0_lessThan 10 = .ok (.getfield 79, 3) := dk_180 0 79 (dk_at dksX0_lessThan_0 10 rfl rfl)
theorem dX0_lessThan_13 : decode cX0_lessThan 13 = .ok (.iload_n 2, 1) := dk_28 (dk_at dksX0_lessThan_0 13 rfl rfl)
theorem dX0_lessThan_14 : decode cX0_lessThan 14 = .ok (.invokevirtual 174, 3) := dk_182 0 174 (dk_at dksX0_lessThan_0 14 rfl rfl)
theorem dX0_lessThan_17 : decode cX0_lessThan 17 = .ok (.aload_n 0, 1) := dk_42 (dk_at dksX0_lessThan_0 17 rfl rfl)
theorem dX0_lessThan_18 : decode cX0_lessThan 18 = .ok (.aload_n 1, 1) := dk_43 (dk_at dksX0_lessThan_0 18 rfl rfl)
theorem dX0_lessThan_19 : decode cX0_lessThan 19 = .ok (.getfield 87, 3) := dk_180 0 87 (dk_at dksX0_lessThan_0 19 rfl rfl)
theorem dX0_lessThan_22 : decode cX0_lessThan 22 = .ok (.iload_n 2, 1) := dk_28 (dk_at dksX0_lessThan_0 22 rfl rfl)
theorem dX0_lessThan_23 : decode cX0_lessThan 23 = .ok (.invokevirtual 174, 3) := dk_182 0 174 (dk_at dksX0_lessThan_1 0 rfl rfl)
theorem dX0_lessThan_26 : decode cX0_lessThan 26 = .ok (.iadd, 1) := dk_96 (dk_at dksX0_lessThan_1 3 rfl rfl)
theorem dX0_lessThan_27 : decode cX0_lessThan 27 = .ok (.aload_n 1, 1) := dk_43 (dk_at dksX0_lessThan_1 4 rfl rfl)
theorem dX0_lessThan_28 : decode cX0_lessThan 28 = .ok (.getfield 72, 3) := dk_180 0 72 (dk_at dksX0_lessThan_1 5 rfl rfl)
theorem dX0_lessThan_31 : decode cX0_lessThan 31 = .ok (.iload_n 2, 1) := dk_28 (dk_at dksX0_lessThan_1 8 rfl rfl)
theorem dX0_lessThan_32 : decode cX0_lessThan 32 = .ok (.if_icmp .ge 7, 3) := dk_162 0 7 (dk_at dksX0_lessThan_1 9 rfl rfl)
theorem dX0_lessThan_35 : decode cX0_lessThan 35 = .ok (.iconst 1, 1) := dk_4 (dk_at dksX0_lessThan_1 12 rfl rfl)
theorem dX0_lessThan_36 : decode cX0_lessThan 36 = .ok (.goto 4, 3) := dk_167 0 4 (dk_at dksX0_lessThan_1 13 rfl rfl)
theorem dX0_lessThan_39 : decode cX0_lessThan 39 = .ok (.iconst 0, 1) := dk_3 (dk_at dksX0_lessThan_1 16 rfl rfl)
theorem dX0_lessThan_40 : decode cX0_lessThan 40 = .ok (.iadd, 1) := dk_96 (dk_at dksX0_lessThan_1 17 rfl rfl)
theorem dX0_lessThan_41 : decode cX0_lessThan 41 = .ok (.ireturn, 1) := dk_172 (dk_at dksX0_lessThan_1 18 rfl rfl)
abbrev cX0_as : ByteArray := prog_1_method_20_code
def yX0_as : MethodName := ⟨RX0, "as", "(II)I"⟩
def dkwX0_as_1 : List UInt8 := [154, 0, 8, 16, 154, 167, 0, 16, 45, 28, 182, 0, 194, 153, 0, 7, 27, 167, 0, 4, 2, 172]
abbrev dktX0_as_1 : List UInt8 := dkwX0_as_1 ++ []
def dkwX0_as_0 : List UInt8 := [42, 180, 0, 16, 27, 182, 0, 188, 78, 45, 199, 0, 6, 16, 155, 172, 28, 3, 7, 184, 0, 3]
abbrev dktX0_as_0 : List UInt8 := dkwX0_as_0 ++ dktX0_as_1
theorem dksX0_as_0 : cX0_as.data.toList.drop 0 = dktX0_as_0 := by decide +kernel
theorem dksX0_as_1 : cX0_as.data.toList.drop 22 = dktX0_as_1 := dk_seg dksX0_as_0 22 rfl rfl
theorem dX0_as_0 : decode cX0_as 0 = .ok (.aload_n 0, 1) := dk_42 (dk_at dksX0_as_0 0 rfl rfl)
theorem dX0_as_1 : decode cX0_as 1 = .ok (.getfield 16, 3) := dk_180 0 16 (dk_at dksX0_as_0 1 rfl rfl)
theorem dX0_as_4 : decode cX0_as 4 = .ok (.iload_n 1, 1) := dk_27 (dk_at dksX0_as_0 4 rfl rfl)
theorem dX0_as_5 : decode cX0_as 5 = .ok (.invokevirtual 188, 3) := dk_182 0 188 (dk_at dksX0_as_0 5 rfl rfl)
theorem dX0_as_8 : decode cX0_as 8 = .ok (.astore_n 3, 1) := dk_78 (dk_at dksX0_as_0 8 rfl rfl)
theorem dX0_as_9 : decode cX0_as 9 = .ok (.aload_n 3, 1) := dk_45 (dk_at dksX0_as_0 9 rfl rfl)
theorem dX0_as_10 : decode cX0_as 10 = .ok (.ifnonnull 6, 3) := dk_199 0 6 (dk_at dksX0_as_0 10 rfl rfl)
theorem dX0_as_13 : decode cX0_as 13 = .ok (.bipush (-101), 2) := dk_16 155 (dk_at dksX0_as_0 13 rfl rfl)
theorem dX0_as_15 : decode cX0_as 15 = .ok (.ireturn, 1) := dk_172 (dk_at dksX0_as_0 15 rfl rfl)
theorem dX0_as_16 : decode cX0_as 16 = .ok (.iload_n 2, 1) := dk_28 (dk_at dksX0_as_0 16 rfl rfl)
theorem dX0_as_17 : decode cX0_as 17 = .ok (.iconst 0, 1) := dk_3 (dk_at dksX0_as_0 17 rfl rfl)
theorem dX0_as_18 : decode cX0_as 18 = .ok (.iconst 4, 1) := dk_7 (dk_at dksX0_as_0 18 rfl rfl)
theorem dX0_as_19 : decode cX0_as 19 = .ok (.invokestatic 3, 3) := dk_184 0 3 (dk_at dksX0_as_0 19 rfl rfl)
theorem dX0_as_22 : decode cX0_as 22 = .ok (.ifCond .ne 8, 3) := dk_154 0 8 (dk_at dksX0_as_1 0 rfl rfl)
theorem dX0_as_25 : decode cX0_as 25 = .ok (.bipush (-102), 2) := dk_16 154 (dk_at dksX0_as_1 3 rfl rfl)
theorem dX0_as_27 : decode cX0_as 27 = .ok (.goto 16, 3) := dk_167 0 16 (dk_at dksX0_as_1 5 rfl rfl)
theorem dX0_as_30 : decode cX0_as 30 = .ok (.aload_n 3, 1) := dk_45 (dk_at dksX0_as_1 8 rfl rfl)
theorem dX0_as_31 : decode cX0_as 31 = .ok (.iload_n 2, 1) := dk_28 (dk_at dksX0_as_1 9 rfl rfl)
theorem dX0_as_32 : decode cX0_as 32 = .ok (.invokevirtual 194, 3) := dk_182 0 194 (dk_at dksX0_as_1 10 rfl rfl)
theorem dX0_as_35 : decode cX0_as 35 = .ok (.ifCond .eq 7, 3) := dk_153 0 7 (dk_at dksX0_as_1 13 rfl rfl)
theorem dX0_as_38 : decode cX0_as 38 = .ok (.iload_n 1, 1) := dk_27 (dk_at dksX0_as_1 16 rfl rfl)
theorem dX0_as_39 : decode cX0_as 39 = .ok (.goto 4, 3) := dk_167 0 4 (dk_at dksX0_as_1 17 rfl rfl)
theorem dX0_as_42 : decode cX0_as 42 = .ok (.iconst (-1), 1) := dk_2 (dk_at dksX0_as_1 20 rfl rfl)
theorem dX0_as_43 : decode cX0_as 43 = .ok (.ireturn, 1) := dk_172 (dk_at dksX0_as_1 21 rfl rfl)
abbrev cX0_at : ByteArray := prog_1_method_23_code
def yX0_at : MethodName := ⟨RX0, "at", "(I)I"⟩
def dkwX0_at_1 : List UInt8 := [167, 0, 5, 16, 155, 172]
abbrev dktX0_at_1 : List UInt8 := dkwX0_at_1 ++ []
def dkwX0_at_0 : List UInt8 := [27, 3, 42, 180, 0, 16, 180, 0, 167, 4, 100, 184, 0, 3, 153, 0, 11, 42, 27, 182, 0, 202]
abbrev dktX0_at_0 : List UInt8 := dkwX0_at_0 ++ dktX0_at_1
theorem dksX0_at_0 : cX0_at.data.toList.drop 0 = dktX0_at_0 := by decide +kernel
theorem dksX0_at_1 : cX0_at.data.toList.drop 22 = dktX0_at_1 := dk_seg dksX0_at_0 22 rfl rfl
theorem dX0_at_0 : decode cX0_at 0 = .ok (.iload_n 1, 1) := dk_27 (dk_at dksX0_at_0 0 rfl rfl)
theorem dX0_at_1 : decode cX0_at 1 = .ok (.iconst 0, 1) := dk_3 (dk_at dksX0_at_0 1 rfl rfl)
theorem dX0_at_2 : decode cX0_at 2 = .ok (.aload_n 0, 1) := dk_42 (dk_at dksX0_at_0 2 rfl rfl)
theorem dX0_at_3 : decode cX0_at 3 = .ok (.getfield 16, 3) := dk_180 0 16 (dk_at dksX0_at_0 3 rfl rfl)
theorem dX0_at_6 : decode cX0_at 6 = .ok (.getfield 167, 3) := dk_180 0 167 (dk_at dksX0_at_0 6 rfl rfl)
theorem dX0_at_9 : decode cX0_at 9 = .ok (.iconst 1, 1) := dk_4 (dk_at dksX0_at_0 9 rfl rfl)
theorem dX0_at_10 : decode cX0_at 10 = .ok (.isub, 1) := dk_100 (dk_at dksX0_at_0 10 rfl rfl)
theorem dX0_at_11 : decode cX0_at 11 = .ok (.invokestatic 3, 3) := dk_184 0 3 (dk_at dksX0_at_0 11 rfl rfl)
theorem dX0_at_14 : decode cX0_at 14 = .ok (.ifCond .eq 11, 3) := dk_153 0 11 (dk_at dksX0_at_0 14 rfl rfl)
theorem dX0_at_17 : decode cX0_at 17 = .ok (.aload_n 0, 1) := dk_42 (dk_at dksX0_at_0 17 rfl rfl)
theorem dX0_at_18 : decode cX0_at 18 = .ok (.iload_n 1, 1) := dk_27 (dk_at dksX0_at_0 18 rfl rfl)
theorem dX0_at_19 : decode cX0_at 19 = .ok (.invokevirtual 202, 3) := dk_182 0 202 (dk_at dksX0_at_0 19 rfl rfl)
theorem dX0_at_22 : decode cX0_at 22 = .ok (.goto 5, 3) := dk_167 0 5 (dk_at dksX0_at_1 0 rfl rfl)
theorem dX0_at_25 : decode cX0_at 25 = .ok (.bipush (-101), 2) := dk_16 155 (dk_at dksX0_at_1 3 rfl rfl)
theorem dX0_at_27 : decode cX0_at 27 = .ok (.ireturn, 1) := dk_172 (dk_at dksX0_at_1 5 rfl rfl)
abbrev cX0_keyAt : ByteArray := prog_1_method_22_code
def yX0_keyAt : MethodName := ⟨RX0, "keyAt", "(I)I"⟩
def dkwX0_keyAt_0 : List UInt8 := [2, 61, 3, 62, 29, 27, 163, 0, 15, 42, 28, 182, 0, 198, 61, 132, 3, 1, 167, 255, 242, 28, 172]
abbrev dktX0_keyAt_0 : List UInt8 := dkwX0_keyAt_0 ++ []
theorem dksX0_keyAt_0 : cX0_keyAt.data.toList.drop 0 = dktX0_keyAt_0 := by decide +kernel
theorem dX0_keyAt_0 : decode cX0_keyAt 0 = .ok (.iconst (-1), 1) := dk_2 (dk_at dksX0_keyAt_0 0 rfl rfl)
theorem dX0_keyAt_1 : decode cX0_keyAt 1 = .ok (.istore_n 2, 1) := dk_61 (dk_at dksX0_keyAt_0 1 rfl rfl)
theorem dX0_keyAt_2 : decode cX0_keyAt 2 = .ok (.iconst 0, 1) := dk_3 (dk_at dksX0_keyAt_0 2 rfl rfl)
theorem dX0_keyAt_3 : decode cX0_keyAt 3 = .ok (.istore_n 3, 1) := dk_62 (dk_at dksX0_keyAt_0 3 rfl rfl)
theorem dX0_keyAt_4 : decode cX0_keyAt 4 = .ok (.iload_n 3, 1) := dk_29 (dk_at dksX0_keyAt_0 4 rfl rfl)
theorem dX0_keyAt_5 : decode cX0_keyAt 5 = .ok (.iload_n 1, 1) := dk_27 (dk_at dksX0_keyAt_0 5 rfl rfl)
theorem dX0_keyAt_6 : decode cX0_keyAt 6 = .ok (.if_icmp .gt 15, 3) := dk_163 0 15 (dk_at dksX0_keyAt_0 6 rfl rfl)
theorem dX0_keyAt_9 : decode cX0_keyAt 9 = .ok (.aload_n 0, 1) := dk_42 (dk_at dksX0_keyAt_0 9 rfl rfl)
theorem dX0_keyAt_10 : decode cX0_keyAt 10 = .ok (.iload_n 2, 1) := dk_28 (dk_at dksX0_keyAt_0 10 rfl rfl)
theorem dX0_keyAt_11 : decode cX0_keyAt 11 = .ok (.invokevirtual 198, 3) := dk_182 0 198 (dk_at dksX0_keyAt_0 11 rfl rfl)
theorem dX0_keyAt_14 : decode cX0_keyAt 14 = .ok (.istore_n 2, 1) := dk_61 (dk_at dksX0_keyAt_0 14 rfl rfl)
theorem dX0_keyAt_15 : decode cX0_keyAt 15 = .ok (.iinc 3 1, 3) := dk_132 3 1 (dk_at dksX0_keyAt_0 15 rfl rfl)
theorem dX0_keyAt_18 : decode cX0_keyAt 18 = .ok (.goto (-14), 3) := dk_167 255 242 (dk_at dksX0_keyAt_0 18 rfl rfl)
theorem dX0_keyAt_21 : decode cX0_keyAt 21 = .ok (.iload_n 2, 1) := dk_28 (dk_at dksX0_keyAt_0 21 rfl rfl)
theorem dX0_keyAt_22 : decode cX0_keyAt 22 = .ok (.ireturn, 1) := dk_172 (dk_at dksX0_keyAt_0 22 rfl rfl)
abbrev cX0_nextTo : ByteArray := prog_1_method_21_code
def yX0_nextTo : MethodName := ⟨RX0, "nextTo", "(I)I"⟩
def dkwX0_nextTo_2 : List UInt8 := [180, 0, 87, 78, 167, 255, 215, 28, 172]
abbrev dktX0_nextTo_2 : List UInt8 := dkwX0_nextTo_2 ++ []
def dkwX0_nextTo_1 : List UInt8 := [180, 0, 72, 167, 0, 4, 28, 61, 45, 180, 0, 72, 27, 164, 0, 10, 45, 180, 0, 79, 167, 0, 7, 45]
abbrev dktX0_nextTo_1 : List UInt8 := dkwX0_nextTo_1 ++ dktX0_nextTo_2
def dkwX0_nextTo_0 : List UInt8 := [2, 61, 42, 180, 0, 16, 180, 0, 185, 78, 45, 198, 0, 43, 45, 180, 0, 72, 27, 164, 0, 10, 45]
abbrev dktX0_nextTo_0 : List UInt8 := dkwX0_nextTo_0 ++ dktX0_nextTo_1
theorem dksX0_nextTo_0 : cX0_nextTo.data.toList.drop 0 = dktX0_nextTo_0 := by decide +kernel
theorem dksX0_nextTo_1 : cX0_nextTo.data.toList.drop 23 = dktX0_nextTo_1 := dk_seg dksX0_nextTo_0 23 rfl rfl
theorem dksX0_nextTo_2 : cX0_nextTo.data.toList.drop 47 = dktX0_nextTo_2 := dk_seg dksX0_nextTo_1 24 rfl rfl
theorem dX0_nextTo_0 : decode cX0_nextTo 0 = .ok (.iconst (-1), 1) := dk_2 (dk_at dksX0_nextTo_0 0 rfl rfl)
theorem dX0_nextTo_1 : decode cX0_nextTo 1 = .ok (.istore_n 2, 1) := dk_61 (dk_at dksX0_nextTo_0 1 rfl rfl)
theorem dX0_nextTo_2 : decode cX0_nextTo 2 = .ok (.aload_n 0, 1) := dk_42 (dk_at dksX0_nextTo_0 2 rfl rfl)
theorem dX0_nextTo_3 : decode cX0_nextTo 3 = .ok (.getfield 16, 3) := dk_180 0 16 (dk_at dksX0_nextTo_0 3 rfl rfl)
theorem dX0_nextTo_6 : decode cX0_nextTo 6 = .ok (.getfield 185, 3) := dk_180 0 185 (dk_at dksX0_nextTo_0 6 rfl rfl)
theorem dX0_nextTo_9 : decode cX0_nextTo 9 = .ok (.astore_n 3, 1) := dk_78 (dk_at dksX0_nextTo_0 9 rfl rfl)
theorem dX0_nextTo_10 : decode cX0_nextTo 10 = .ok (.aload_n 3, 1) := dk_45 (dk_at dksX0_nextTo_0 10 rfl rfl)
theorem dX0_nextTo_11 : decode cX0_nextTo 11 = .ok (.ifnull 43, 3) := dk_198 0 43 (dk_at dksX0_nextTo_0 11 rfl rfl)
theorem dX0_nextTo_14 : decode cX0_nextTo 14 = .ok (.aload_n 3, 1) := dk_45 (dk_at dksX0_nextTo_0 14 rfl rfl)
theorem dX0_nextTo_15 : decode cX0_nextTo 15 = .ok (.getfield 72, 3) := dk_180 0 72 (dk_at dksX0_nextTo_0 15 rfl rfl)
theorem dX0_nextTo_18 : decode cX0_nextTo 18 = .ok (.iload_n 1, 1) := dk_27 (dk_at dksX0_nextTo_0 18 rfl rfl)
theorem dX0_nextTo_19 : decode cX0_nextTo 19 = .ok (.if_icmp .le 10, 3) := dk_164 0 10 (dk_at dksX0_nextTo_0 19 rfl rfl)
theorem dX0_nextTo_22 : decode cX0_nextTo 22 = .ok (.aload_n 3, 1) := dk_45 (dk_at dksX0_nextTo_0 22 rfl rfl)
theorem dX0_nextTo_23 : decode cX0_nextTo 23 = .ok (.getfield 72, 3) := dk_180 0 72 (dk_at dksX0_nextTo_1 0 rfl rfl)
theorem dX0_nextTo_26 : decode cX0_nextTo 26 = .ok (.goto 4, 3) := dk_167 0 4 (dk_at dksX0_nextTo_1 3 rfl rfl)
theorem dX0_nextTo_29 : decode cX0_nextTo 29 = .ok (.iload_n 2, 1) := dk_28 (dk_at dksX0_nextTo_1 6 rfl rfl)
theorem dX0_nextTo_30 : decode cX0_nextTo 30 = .ok (.istore_n 2, 1) := dk_61 (dk_at dksX0_nextTo_1 7 rfl rfl)
theorem dX0_nextTo_31 : decode cX0_nextTo 31 = .ok (.aload_n 3, 1) := dk_45 (dk_at dksX0_nextTo_1 8 rfl rfl)
theorem dX0_nextTo_32 : decode cX0_nextTo 32 = .ok (.getfield 72, 3) := dk_180 0 72 (dk_at dksX0_nextTo_1 9 rfl rfl)
theorem dX0_nextTo_35 : decode cX0_nextTo 35 = .ok (.iload_n 1, 1) := dk_27 (dk_at dksX0_nextTo_1 12 rfl rfl)
theorem dX0_nextTo_36 : decode cX0_nextTo 36 = .ok (.if_icmp .le 10, 3) := dk_164 0 10 (dk_at dksX0_nextTo_1 13 rfl rfl)
theorem dX0_nextTo_39 : decode cX0_nextTo 39 = .ok (.aload_n 3, 1) := dk_45 (dk_at dksX0_nextTo_1 16 rfl rfl)
theorem dX0_nextTo_40 : decode cX0_nextTo 40 = .ok (.getfield 79, 3) := dk_180 0 79 (dk_at dksX0_nextTo_1 17 rfl rfl)
theorem dX0_nextTo_43 : decode cX0_nextTo 43 = .ok (.goto 7, 3) := dk_167 0 7 (dk_at dksX0_nextTo_1 20 rfl rfl)
theorem dX0_nextTo_46 : decode cX0_nextTo 46 = .ok (.aload_n 3, 1) := dk_45 (dk_at dksX0_nextTo_1 23 rfl rfl)
theorem dX0_nextTo_47 : decode cX0_nextTo 47 = .ok (.getfield 87, 3) := dk_180 0 87 (dk_at dksX0_nextTo_2 0 rfl rfl)
theorem dX0_nextTo_50 : decode cX0_nextTo 50 = .ok (.astore_n 3, 1) := dk_78 (dk_at dksX0_nextTo_2 3 rfl rfl)
theorem dX0_nextTo_51 : decode cX0_nextTo 51 = .ok (.goto (-41), 3) := dk_167 255 215 (dk_at dksX0_nextTo_2 4 rfl rfl)
theorem dX0_nextTo_54 : decode cX0_nextTo 54 = .ok (.iload_n 2, 1) := dk_28 (dk_at dksX0_nextTo_2 7 rfl rfl)
theorem dX0_nextTo_55 : decode cX0_nextTo 55 = .ok (.ireturn, 1) := dk_172 (dk_at dksX0_nextTo_2 8 rfl rfl)
abbrev cX0_next : ByteArray := prog_1_method_24_code
def yX0_next : MethodName := ⟨RX0, "next", "(I)I"⟩
def dkwX0_next_0 : List UInt8 := [42, 182, 0, 205, 153, 0, 11, 42, 27, 182, 0, 198, 167, 0, 5, 16, 153, 172]
abbrev dktX0_next_0 : List UInt8 := dkwX0_next_0 ++ []
theorem dksX0_next_0 : cX0_next.data.toList.drop 0 = dktX0_next_0 := by decide +kernel
theorem dX0_next_0 : decode cX0_next 0 = .ok (.aload_n 0, 1) := dk_42 (dk_at dksX0_next_0 0 rfl rfl)
theorem dX0_next_1 : decode cX0_next 1 = .ok (.invokevirtual 205, 3) := dk_182 0 205 (dk_at dksX0_next_0 1 rfl rfl)
theorem dX0_next_4 : decode cX0_next 4 = .ok (.ifCond .eq 11, 3) := dk_153 0 11 (dk_at dksX0_next_0 4 rfl rfl)
theorem dX0_next_7 : decode cX0_next 7 = .ok (.aload_n 0, 1) := dk_42 (dk_at dksX0_next_0 7 rfl rfl)
theorem dX0_next_8 : decode cX0_next 8 = .ok (.iload_n 1, 1) := dk_27 (dk_at dksX0_next_0 8 rfl rfl)
theorem dX0_next_9 : decode cX0_next 9 = .ok (.invokevirtual 198, 3) := dk_182 0 198 (dk_at dksX0_next_0 9 rfl rfl)
theorem dX0_next_12 : decode cX0_next 12 = .ok (.goto 5, 3) := dk_167 0 5 (dk_at dksX0_next_0 12 rfl rfl)
theorem dX0_next_15 : decode cX0_next 15 = .ok (.bipush (-103), 2) := dk_16 153 (dk_at dksX0_next_0 15 rfl rfl)
theorem dX0_next_17 : decode cX0_next 17 = .ok (.ireturn, 1) := dk_172 (dk_at dksX0_next_0 17 rfl rfl)
abbrev cX0_isShelf : ByteArray := prog_1_method_9_code
def yX0_isShelf : MethodName := ⟨RX0, "isShelf", "()Z"⟩
def dkwX0_isShelf_0 : List UInt8 := [42, 180, 0, 111, 158, 0, 7, 4, 167, 0, 4, 3, 172]
abbrev dktX0_isShelf_0 : List UInt8 := dkwX0_isShelf_0 ++ []
theorem dksX0_isShelf_0 : cX0_isShelf.data.toList.drop 0 = dktX0_isShelf_0 := by decide +kernel
theorem dX0_isShelf_0 : decode cX0_isShelf 0 = .ok (.aload_n 0, 1) := dk_42 (dk_at dksX0_isShelf_0 0 rfl rfl)
theorem dX0_isShelf_1 : decode cX0_isShelf 1 = .ok (.getfield 111, 3) := dk_180 0 111 (dk_at dksX0_isShelf_0 1 rfl rfl)
theorem dX0_isShelf_4 : decode cX0_isShelf 4 = .ok (.ifCond .le 7, 3) := dk_158 0 7 (dk_at dksX0_isShelf_0 4 rfl rfl)
theorem dX0_isShelf_7 : decode cX0_isShelf 7 = .ok (.iconst 1, 1) := dk_4 (dk_at dksX0_isShelf_0 7 rfl rfl)
theorem dX0_isShelf_8 : decode cX0_isShelf 8 = .ok (.goto 4, 3) := dk_167 0 4 (dk_at dksX0_isShelf_0 8 rfl rfl)
theorem dX0_isShelf_11 : decode cX0_isShelf 11 = .ok (.iconst 0, 1) := dk_3 (dk_at dksX0_isShelf_0 11 rfl rfl)
theorem dX0_isShelf_12 : decode cX0_isShelf 12 = .ok (.ireturn, 1) := dk_172 (dk_at dksX0_isShelf_0 12 rfl rfl)
abbrev cX0_put : ByteArray := prog_1_method_28_code
def yX0_put : MethodName := ⟨RX0, "put", "(III)I"⟩
def dkwX0_put_4 : List UInt8 := [167, 0, 13, 42, 27, 28, 29, 184, 0, 103, 182, 0, 157, 172]
abbrev dktX0_put_4 : List UInt8 := dkwX0_put_4 ++ []
def dkwX0_put_3 : List UInt8 := [42, 27, 25, 4, 29, 182, 0, 223, 3, 172, 42, 180, 0, 16, 180, 0, 167, 16, 40, 160, 0, 8, 16, 152]
abbrev dktX0_put_3 : List UInt8 := dkwX0_put_3 ++ dktX0_put_4
def dkwX0_put_2 : List UInt8 := [153, 0, 16, 25, 4, 198, 0, 14, 25, 4, 182, 0, 220, 154, 0, 6, 16, 153, 172, 25, 4, 198, 0, 13]
abbrev dktX0_put_2 : List UInt8 := dkwX0_put_2 ++ dktX0_put_3
def dkwX0_put_1 : List UInt8 := [184, 0, 3, 154, 0, 6, 16, 154, 172, 42, 180, 0, 16, 28, 182, 0, 188, 58, 4, 42, 182, 0, 205]
abbrev dktX0_put_1 : List UInt8 := dkwX0_put_1 ++ dktX0_put_2
def dkwX0_put_0 : List UInt8 := [27, 3, 7, 184, 0, 3, 153, 0, 24, 28, 3, 16, 99, 184, 0, 3, 153, 0, 14, 29, 3, 17, 3, 231]
abbrev dktX0_put_0 : List UInt8 := dkwX0_put_0 ++ dktX0_put_1
theorem dksX0_put_0 : cX0_put.data.toList.drop 0 = dktX0_put_0 := by decide +kernel
theorem dksX0_put_1 : cX0_put.data.toList.drop 24 = dktX0_put_1 := dk_seg dksX0_put_0 24 rfl rfl
theorem dksX0_put_2 : cX0_put.data.toList.drop 47 = dktX0_put_2 := dk_seg dksX0_put_1 23 rfl rfl
theorem dksX0_put_3 : cX0_put.data.toList.drop 71 = dktX0_put_3 := dk_seg dksX0_put_2 24 rfl rfl
theorem dksX0_put_4 : cX0_put.data.toList.drop 95 = dktX0_put_4 := dk_seg dksX0_put_3 24 rfl rfl
theorem dX0_put_0 : decode cX0_put 0 = .ok (.iload_n 1, 1) := dk_27 (dk_at dksX0_put_0 0 rfl rfl)
theorem dX0_put_1 : decode cX0_put 1 = .ok (.iconst 0, 1) := dk_3 (dk_at dksX0_put_0 1 rfl rfl)
theorem dX0_put_2 : decode cX0_put 2 = .ok (.iconst 4, 1) := dk_7 (dk_at dksX0_put_0 2 rfl rfl)
theorem dX0_put_3 : decode cX0_put 3 = .ok (.invokestatic 3, 3) := dk_184 0 3 (dk_at dksX0_put_0 3 rfl rfl)
theorem dX0_put_6 : decode cX0_put 6 = .ok (.ifCond .eq 24, 3) := dk_153 0 24 (dk_at dksX0_put_0 6 rfl rfl)
theorem dX0_put_9 : decode cX0_put 9 = .ok (.iload_n 2, 1) := dk_28 (dk_at dksX0_put_0 9 rfl rfl)
theorem dX0_put_10 : decode cX0_put 10 = .ok (.iconst 0, 1) := dk_3 (dk_at dksX0_put_0 10 rfl rfl)
theorem dX0_put_11 : decode cX0_put 11 = .ok (.bipush 99, 2) := dk_16 99 (dk_at dksX0_put_0 11 rfl rfl)
theorem dX0_put_13 : decode cX0_put 13 = .ok (.invokestatic 3, 3) := dk_184 0 3 (dk_at dksX0_put_0 13 rfl rfl)
theorem dX0_put_16 : decode cX0_put 16 = .ok (.ifCond .eq 14, 3) := dk_153 0 14 (dk_at dksX0_put_0 16 rfl rfl)
theorem dX0_put_19 : decode cX0_put 19 = .ok (.iload_n 3, 1) := dk_29 (dk_at dksX0_put_0 19 rfl rfl)
theorem dX0_put_20 : decode cX0_put 20 = .ok (.iconst 0, 1) := dk_3 (dk_at dksX0_put_0 20 rfl rfl)
theorem dX0_put_21 : decode cX0_put 21 = .ok (.sipush 999, 3) := dk_17 3 231 (dk_at dksX0_put_0 21 rfl rfl)
theorem dX0_put_24 : decode cX0_put 24 = .ok (.invokestatic 3, 3) := dk_184 0 3 (dk_at dksX0_put_1 0 rfl rfl)
theorem dX0_put_27 : decode cX0_put 27 = .ok (.ifCond .ne 6, 3) := dk_154 0 6 (dk_at dksX0_put_1 3 rfl rfl)
theorem dX0_put_30 : decode cX0_put 30 = .ok (.bipush (-102), 2) := dk_16 154 (dk_at dksX0_put_1 6 rfl rfl)
theorem dX0_put_32 : decode cX0_put 32 = .ok (.ireturn, 1) := dk_172 (dk_at dksX0_put_1 8 rfl rfl)
theorem dX0_put_33 : decode cX0_put 33 = .ok (.aload_n 0, 1) := dk_42 (dk_at dksX0_put_1 9 rfl rfl)
theorem dX0_put_34 : decode cX0_put 34 = .ok (.getfield 16, 3) := dk_180 0 16 (dk_at dksX0_put_1 10 rfl rfl)
theorem dX0_put_37 : decode cX0_put 37 = .ok (.iload_n 2, 1) := dk_28 (dk_at dksX0_put_1 13 rfl rfl)
theorem dX0_put_38 : decode cX0_put 38 = .ok (.invokevirtual 188, 3) := dk_182 0 188 (dk_at dksX0_put_1 14 rfl rfl)
theorem dX0_put_41 : decode cX0_put 41 = .ok (.astore 4, 2) := dk_58 4 (dk_at dksX0_put_1 17 rfl rfl)
theorem dX0_put_43 : decode cX0_put 43 = .ok (.aload_n 0, 1) := dk_42 (dk_at dksX0_put_1 19 rfl rfl)
theorem dX0_put_44 : decode cX0_put 44 = .ok (.invokevirtual 205, 3) := dk_182 0 205 (dk_at dksX0_put_1 20 rfl rfl)
theorem dX0_put_47 : decode cX0_put 47 = .ok (.ifCond .eq 16, 3) := dk_153 0 16 (dk_at dksX0_put_2 0 rfl rfl)
theorem dX0_put_50 : decode cX0_put 50 = .ok (.aload 4, 2) := dk_25 4 (dk_at dksX0_put_2 3 rfl rfl)
theorem dX0_put_52 : decode cX0_put 52 = .ok (.ifnull 14, 3) := dk_198 0 14 (dk_at dksX0_put_2 5 rfl rfl)
theorem dX0_put_55 : decode cX0_put 55 = .ok (.aload 4, 2) := dk_25 4 (dk_at dksX0_put_2 8 rfl rfl)
theorem dX0_put_57 : decode cX0_put 57 = .ok (.invokevirtual 220, 3) := dk_182 0 220 (dk_at dksX0_put_2 10 rfl rfl)
theorem dX0_put_60 : decode cX0_put 60 = .ok (.ifCond .ne 6, 3) := dk_154 0 6 (dk_at dksX0_put_2 13 rfl rfl)
theorem dX0_put_63 : decode cX0_put 63 = .ok (.bipush (-103), 2) := dk_16 153 (dk_at dksX0_put_2 16 rfl rfl)
theorem dX0_put_65 : decode cX0_put 65 = .ok (.ireturn, 1) := dk_172 (dk_at dksX0_put_2 18 rfl rfl)
theorem dX0_put_66 : decode cX0_put 66 = .ok (.aload 4, 2) := dk_25 4 (dk_at dksX0_put_2 19 rfl rfl)
theorem dX0_put_68 : decode cX0_put 68 = .ok (.ifnull 13, 3) := dk_198 0 13 (dk_at dksX0_put_2 21 rfl rfl)
theorem dX0_put_71 : decode cX0_put 71 = .ok (.aload_n 0, 1) := dk_42 (dk_at dksX0_put_3 0 rfl rfl)
theorem dX0_put_72 : decode cX0_put 72 = .ok (.iload_n 1, 1) := dk_27 (dk_at dksX0_put_3 1 rfl rfl)
theorem dX0_put_73 : decode cX0_put 73 = .ok (.aload 4, 2) := dk_25 4 (dk_at dksX0_put_3 2 rfl rfl)
theorem dX0_put_75 : decode cX0_put 75 = .ok (.iload_n 3, 1) := dk_29 (dk_at dksX0_put_3 4 rfl rfl)
theorem dX0_put_76 : decode cX0_put 76 = .ok (.invokevirtual 223, 3) := dk_182 0 223 (dk_at dksX0_put_3 5 rfl rfl)
theorem dX0_put_79 : decode cX0_put 79 = .ok (.iconst 0, 1) := dk_3 (dk_at dksX0_put_3 8 rfl rfl)
theorem dX0_put_80 : decode cX0_put 80 = .ok (.ireturn, 1) := dk_172 (dk_at dksX0_put_3 9 rfl rfl)
theorem dX0_put_81 : decode cX0_put 81 = .ok (.aload_n 0, 1) := dk_42 (dk_at dksX0_put_3 10 rfl rfl)
theorem dX0_put_82 : decode cX0_put 82 = .ok (.getfield 16, 3) := dk_180 0 16 (dk_at dksX0_put_3 11 rfl rfl)
theorem dX0_put_85 : decode cX0_put 85 = .ok (.getfield 167, 3) := dk_180 0 167 (dk_at dksX0_put_3 14 rfl rfl)
theorem dX0_put_88 : decode cX0_put 88 = .ok (.bipush 40, 2) := dk_16 40 (dk_at dksX0_put_3 17 rfl rfl)
theorem dX0_put_90 : decode cX0_put 90 = .ok (.if_icmp .ne 8, 3) := dk_160 0 8 (dk_at dksX0_put_3 19 rfl rfl)
theorem dX0_put_93 : decode cX0_put 93 = .ok (.bipush (-104), 2) := dk_16 152 (dk_at dksX0_put_3 22 rfl rfl)
theorem dX0_put_95 : decode cX0_put 95 = .ok (.goto 13, 3) := dk_167 0 13 (dk_at dksX0_put_4 0 rfl rfl)
theorem dX0_put_98 : decode cX0_put 98 = .ok (.aload_n 0, 1) := dk_42 (dk_at dksX0_put_4 3 rfl rfl)
theorem dX0_put_99 : decode cX0_put 99 = .ok (.iload_n 1, 1) := dk_27 (dk_at dksX0_put_4 4 rfl rfl)
theorem dX0_put_100 : decode cX0_put 100 = .ok (.iload_n 2, 1) := dk_28 (dk_at dksX0_put_4 5 rfl rfl)
theorem dX0_put_101 : decode cX0_put 101 = .ok (.iload_n 3, 1) := dk_29 (dk_at dksX0_put_4 6 rfl rfl)
theorem dX0_put_102 : decode cX0_put 102 = .ok (.invokestatic 103, 3) := dk_184 0 103 (dk_at dksX0_put_4 7 rfl rfl)
theorem dX0_put_105 : decode cX0_put 105 = .ok (.invokevirtual 157, 3) := dk_182 0 157 (dk_at dksX0_put_4 10 rfl rfl)
theorem dX0_put_108 : decode cX0_put 108 = .ok (.ireturn, 1) := dk_172 (dk_at dksX0_put_4 13 rfl rfl)
abbrev cX0_putAnew : ByteArray := prog_1_method_27_code
def yX0_putAnew : MethodName := ⟨RX0, "putAnew", "(ILCreditShelf$Entry;I)V"⟩
def dkwX0_putAnew_2 : List UInt8 := [177]
abbrev dktX0_putAnew_2 : List UInt8 := dkwX0_putAnew_2 ++ []
def dkwX0_putAnew_1 : List UInt8 := [180, 0, 87, 181, 0, 87, 42, 180, 0, 16, 42, 44, 180, 0, 72, 182, 0, 181, 44, 25, 4, 182, 0, 216]
abbrev dktX0_putAnew_1 : List UInt8 := dkwX0_putAnew_1 ++ dktX0_putAnew_2
def dkwX0_putAnew_0 : List UInt8 := [27, 44, 180, 0, 72, 29, 184, 0, 103, 58, 4, 25, 4, 44, 180, 0, 79, 181, 0, 79, 25, 4, 44]
abbrev dktX0_putAnew_0 : List UInt8 := dkwX0_putAnew_0 ++ dktX0_putAnew_1
theorem dksX0_putAnew_0 : cX0_putAnew.data.toList.drop 0 = dktX0_putAnew_0 := by decide +kernel
theorem dksX0_putAnew_1 : cX0_putAnew.data.toList.drop 23 = dktX0_putAnew_1 := dk_seg dksX0_putAnew_0 23 rfl rfl
theorem dksX0_putAnew_2 : cX0_putAnew.data.toList.drop 47 = dktX0_putAnew_2 := dk_seg dksX0_putAnew_1 24 rfl rfl
theorem dX0_putAnew_0 : decode cX0_putAnew 0 = .ok (.iload_n 1, 1) := dk_27 (dk_at dksX0_putAnew_0 0 rfl rfl)
theorem dX0_putAnew_1 : decode cX0_putAnew 1 = .ok (.aload_n 2, 1) := dk_44 (dk_at dksX0_putAnew_0 1 rfl rfl)
theorem dX0_putAnew_2 : decode cX0_putAnew 2 = .ok (.getfield 72, 3) := dk_180 0 72 (dk_at dksX0_putAnew_0 2 rfl rfl)
theorem dX0_putAnew_5 : decode cX0_putAnew 5 = .ok (.iload_n 3, 1) := dk_29 (dk_at dksX0_putAnew_0 5 rfl rfl)
theorem dX0_putAnew_6 : decode cX0_putAnew 6 = .ok (.invokestatic 103, 3) := dk_184 0 103 (dk_at dksX0_putAnew_0 6 rfl rfl)
theorem dX0_putAnew_9 : decode cX0_putAnew 9 = .ok (.astore 4, 2) := dk_58 4 (dk_at dksX0_putAnew_0 9 rfl rfl)
theorem dX0_putAnew_11 : decode cX0_putAnew 11 = .ok (.aload 4, 2) := dk_25 4 (dk_at dksX0_putAnew_0 11 rfl rfl)
theorem dX0_putAnew_13 : decode cX0_putAnew 13 = .ok (.aload_n 2, 1) := dk_44 (dk_at dksX0_putAnew_0 13 rfl rfl)
theorem dX0_putAnew_14 : decode cX0_putAnew 14 = .ok (.getfield 79, 3) := dk_180 0 79 (dk_at dksX0_putAnew_0 14 rfl rfl)
theorem dX0_putAnew_17 : decode cX0_putAnew 17 = .ok (.putfield 79, 3) := dk_181 0 79 (dk_at dksX0_putAnew_0 17 rfl rfl)
theorem dX0_putAnew_20 : decode cX0_putAnew 20 = .ok (.aload 4, 2) := dk_25 4 (dk_at dksX0_putAnew_0 20 rfl rfl)
theorem dX0_putAnew_22 : decode cX0_putAnew 22 = .ok (.aload_n 2, 1) := dk_44 (dk_at dksX0_putAnew_0 22 rfl rfl)
theorem dX0_putAnew_23 : decode cX0_putAnew 23 = .ok (.getfield 87, 3) := dk_180 0 87 (dk_at dksX0_putAnew_1 0 rfl rfl)
theorem dX0_putAnew_26 : decode cX0_putAnew 26 = .ok (.putfield 87, 3) := dk_181 0 87 (dk_at dksX0_putAnew_1 3 rfl rfl)
theorem dX0_putAnew_29 : decode cX0_putAnew 29 = .ok (.aload_n 0, 1) := dk_42 (dk_at dksX0_putAnew_1 6 rfl rfl)
theorem dX0_putAnew_30 : decode cX0_putAnew 30 = .ok (.getfield 16, 3) := dk_180 0 16 (dk_at dksX0_putAnew_1 7 rfl rfl)
theorem dX0_putAnew_33 : decode cX0_putAnew 33 = .ok (.aload_n 0, 1) := dk_42 (dk_at dksX0_putAnew_1 10 rfl rfl)
theorem dX0_putAnew_34 : decode cX0_putAnew 34 = .ok (.aload_n 2, 1) := dk_44 (dk_at dksX0_putAnew_1 11 rfl rfl)
theorem dX0_putAnew_35 : decode cX0_putAnew 35 = .ok (.getfield 72, 3) := dk_180 0 72 (dk_at dksX0_putAnew_1 12 rfl rfl)
theorem dX0_putAnew_38 : decode cX0_putAnew 38 = .ok (.invokevirtual 181, 3) := dk_182 0 181 (dk_at dksX0_putAnew_1 15 rfl rfl)
theorem dX0_putAnew_41 : decode cX0_putAnew 41 = .ok (.aload_n 2, 1) := dk_44 (dk_at dksX0_putAnew_1 18 rfl rfl)
theorem dX0_putAnew_42 : decode cX0_putAnew 42 = .ok (.aload 4, 2) := dk_25 4 (dk_at dksX0_putAnew_1 19 rfl rfl)
theorem dX0_putAnew_44 : decode cX0_putAnew 44 = .ok (.invokevirtual 216, 3) := dk_182 0 216 (dk_at dksX0_putAnew_1 21 rfl rfl)
theorem dX0_putAnew_47 : decode cX0_putAnew 47 = .ok (.return_, 1) := dk_177 (dk_at dksX0_putAnew_2 0 rfl rfl)
abbrev cX0_take : ByteArray := prog_1_method_30_code
def yX0_take : MethodName := ⟨RX0, "take", "(I)I"⟩
def dkwX0_take_1 : List UInt8 := [16, 153, 172, 42, 27, 182, 0, 233, 44, 180, 0, 76, 172]
abbrev dktX0_take_1 : List UInt8 := dkwX0_take_1 ++ []
def dkwX0_take_0 : List UInt8 := [42, 180, 0, 16, 27, 182, 0, 188, 77, 44, 199, 0, 6, 16, 155, 172, 44, 182, 0, 230, 154, 0, 6]
abbrev dktX0_take_0 : List UInt8 := dkwX0_take_0 ++ dktX0_take_1
theorem dksX0_take_0 : cX0_take.data.toList.drop 0 = dktX0_take_0 := by decide +kernel
theorem dksX0_take_1 : cX0_take.data.toList.drop 23 = dktX0_take_1 := dk_seg dksX0_take_0 23 rfl rfl
theorem dX0_take_0 : decode cX0_take 0 = .ok (.aload_n 0, 1) := dk_42 (dk_at dksX0_take_0 0 rfl rfl)
theorem dX0_take_1 : decode cX0_take 1 = .ok (.getfield 16, 3) := dk_180 0 16 (dk_at dksX0_take_0 1 rfl rfl)
theorem dX0_take_4 : decode cX0_take 4 = .ok (.iload_n 1, 1) := dk_27 (dk_at dksX0_take_0 4 rfl rfl)
theorem dX0_take_5 : decode cX0_take 5 = .ok (.invokevirtual 188, 3) := dk_182 0 188 (dk_at dksX0_take_0 5 rfl rfl)
theorem dX0_take_8 : decode cX0_take 8 = .ok (.astore_n 2, 1) := dk_77 (dk_at dksX0_take_0 8 rfl rfl)
theorem dX0_take_9 : decode cX0_take 9 = .ok (.aload_n 2, 1) := dk_44 (dk_at dksX0_take_0 9 rfl rfl)
theorem dX0_take_10 : decode cX0_take 10 = .ok (.ifnonnull 6, 3) := dk_199 0 6 (dk_at dksX0_take_0 10 rfl rfl)
theorem dX0_take_13 : decode cX0_take 13 = .ok (.bipush (-101), 2) := dk_16 155 (dk_at dksX0_take_0 13 rfl rfl)
theorem dX0_take_15 : decode cX0_take 15 = .ok (.ireturn, 1) := dk_172 (dk_at dksX0_take_0 15 rfl rfl)
theorem dX0_take_16 : decode cX0_take 16 = .ok (.aload_n 2, 1) := dk_44 (dk_at dksX0_take_0 16 rfl rfl)
theorem dX0_take_17 : decode cX0_take 17 = .ok (.invokevirtual 230, 3) := dk_182 0 230 (dk_at dksX0_take_0 17 rfl rfl)
theorem dX0_take_20 : decode cX0_take 20 = .ok (.ifCond .ne 6, 3) := dk_154 0 6 (dk_at dksX0_take_0 20 rfl rfl)
theorem dX0_take_23 : decode cX0_take 23 = .ok (.bipush (-103), 2) := dk_16 153 (dk_at dksX0_take_1 0 rfl rfl)
theorem dX0_take_25 : decode cX0_take 25 = .ok (.ireturn, 1) := dk_172 (dk_at dksX0_take_1 2 rfl rfl)
theorem dX0_take_26 : decode cX0_take 26 = .ok (.aload_n 0, 1) := dk_42 (dk_at dksX0_take_1 3 rfl rfl)
theorem dX0_take_27 : decode cX0_take 27 = .ok (.iload_n 1, 1) := dk_27 (dk_at dksX0_take_1 4 rfl rfl)
theorem dX0_take_28 : decode cX0_take 28 = .ok (.invokevirtual 233, 3) := dk_182 0 233 (dk_at dksX0_take_1 5 rfl rfl)
theorem dX0_take_31 : decode cX0_take 31 = .ok (.aload_n 2, 1) := dk_44 (dk_at dksX0_take_1 8 rfl rfl)
theorem dX0_take_32 : decode cX0_take 32 = .ok (.getfield 76, 3) := dk_180 0 76 (dk_at dksX0_take_1 9 rfl rfl)
theorem dX0_take_35 : decode cX0_take 35 = .ok (.ireturn, 1) := dk_172 (dk_at dksX0_take_1 12 rfl rfl)
abbrev cX0_takeAway : ByteArray := prog_1_method_29_code
def yX0_takeAway : MethodName := ⟨RX0, "takeAway", "(I)V"⟩
def dkwX0_takeAway_0 : List UInt8 := [42, 16, 100, 27, 96, 182, 0, 209, 42, 180, 0, 16, 27, 182, 0, 227, 87, 177]
abbrev dktX0_takeAway_0 : List UInt8 := dkwX0_takeAway_0 ++ []
theorem dksX0_takeAway_0 : cX0_takeAway.data.toList.drop 0 = dktX0_takeAway_0 := by decide +kernel
theorem dX0_takeAway_0 : decode cX0_takeAway 0 = .ok (.aload_n 0, 1) := dk_42 (dk_at dksX0_takeAway_0 0 rfl rfl)
theorem dX0_takeAway_1 : decode cX0_takeAway 1 = .ok (.bipush 100, 2) := dk_16 100 (dk_at dksX0_takeAway_0 1 rfl rfl)
theorem dX0_takeAway_3 : decode cX0_takeAway 3 = .ok (.iload_n 1, 1) := dk_27 (dk_at dksX0_takeAway_0 3 rfl rfl)
theorem dX0_takeAway_4 : decode cX0_takeAway 4 = .ok (.iadd, 1) := dk_96 (dk_at dksX0_takeAway_0 4 rfl rfl)
theorem dX0_takeAway_5 : decode cX0_takeAway 5 = .ok (.invokevirtual 209, 3) := dk_182 0 209 (dk_at dksX0_takeAway_0 5 rfl rfl)
theorem dX0_takeAway_8 : decode cX0_takeAway 8 = .ok (.aload_n 0, 1) := dk_42 (dk_at dksX0_takeAway_0 8 rfl rfl)
theorem dX0_takeAway_9 : decode cX0_takeAway 9 = .ok (.getfield 16, 3) := dk_180 0 16 (dk_at dksX0_takeAway_0 9 rfl rfl)
theorem dX0_takeAway_12 : decode cX0_takeAway 12 = .ok (.iload_n 1, 1) := dk_27 (dk_at dksX0_takeAway_0 12 rfl rfl)
theorem dX0_takeAway_13 : decode cX0_takeAway 13 = .ok (.invokevirtual 227, 3) := dk_182 0 227 (dk_at dksX0_takeAway_0 13 rfl rfl)
theorem dX0_takeAway_16 : decode cX0_takeAway 16 = .ok (.pop, 1) := dk_87 (dk_at dksX0_takeAway_0 16 rfl rfl)
theorem dX0_takeAway_17 : decode cX0_takeAway 17 = .ok (.return_, 1) := dk_177 (dk_at dksX0_takeAway_0 17 rfl rfl)
abbrev cX0_tell : ByteArray := prog_1_method_31_code
def yX0_tell : MethodName := ⟨RX0, "tell", "(I)I"⟩
def dkwX0_tell_2 : List UInt8 := [182, 0, 242, 154, 0, 8, 42, 27, 182, 0, 233, 29, 172]
abbrev dktX0_tell_2 : List UInt8 := dkwX0_tell_2 ++ []
def dkwX0_tell_1 : List UInt8 := [182, 0, 236, 153, 0, 15, 17, 3, 231, 29, 4, 96, 184, 0, 239, 167, 0, 4, 29, 181, 0, 76, 44]
abbrev dktX0_tell_1 : List UInt8 := dkwX0_tell_1 ++ dktX0_tell_2
def dkwX0_tell_0 : List UInt8 := [42, 180, 0, 16, 27, 182, 0, 188, 77, 44, 199, 0, 6, 16, 155, 172, 44, 180, 0, 76, 62, 44, 44]
abbrev dktX0_tell_0 : List UInt8 := dkwX0_tell_0 ++ dktX0_tell_1
theorem dksX0_tell_0 : cX0_tell.data.toList.drop 0 = dktX0_tell_0 := by decide +kernel
theorem dksX0_tell_1 : cX0_tell.data.toList.drop 23 = dktX0_tell_1 := dk_seg dksX0_tell_0 23 rfl rfl
theorem dksX0_tell_2 : cX0_tell.data.toList.drop 46 = dktX0_tell_2 := dk_seg dksX0_tell_1 23 rfl rfl
theorem dX0_tell_0 : decode cX0_tell 0 = .ok (.aload_n 0, 1) := dk_42 (dk_at dksX0_tell_0 0 rfl rfl)
theorem dX0_tell_1 : decode cX0_tell 1 = .ok (.getfield 16, 3) := dk_180 0 16 (dk_at dksX0_tell_0 1 rfl rfl)
theorem dX0_tell_4 : decode cX0_tell 4 = .ok (.iload_n 1, 1) := dk_27 (dk_at dksX0_tell_0 4 rfl rfl)
theorem dX0_tell_5 : decode cX0_tell 5 = .ok (.invokevirtual 188, 3) := dk_182 0 188 (dk_at dksX0_tell_0 5 rfl rfl)
theorem dX0_tell_8 : decode cX0_tell 8 = .ok (.astore_n 2, 1) := dk_77 (dk_at dksX0_tell_0 8 rfl rfl)
theorem dX0_tell_9 : decode cX0_tell 9 = .ok (.aload_n 2, 1) := dk_44 (dk_at dksX0_tell_0 9 rfl rfl)
theorem dX0_tell_10 : decode cX0_tell 10 = .ok (.ifnonnull 6, 3) := dk_199 0 6 (dk_at dksX0_tell_0 10 rfl rfl)
theorem dX0_tell_13 : decode cX0_tell 13 = .ok (.bipush (-101), 2) := dk_16 155 (dk_at dksX0_tell_0 13 rfl rfl)
theorem dX0_tell_15 : decode cX0_tell 15 = .ok (.ireturn, 1) := dk_172 (dk_at dksX0_tell_0 15 rfl rfl)
theorem dX0_tell_16 : decode cX0_tell 16 = .ok (.aload_n 2, 1) := dk_44 (dk_at dksX0_tell_0 16 rfl rfl)
theorem dX0_tell_17 : decode cX0_tell 17 = .ok (.getfield 76, 3) := dk_180 0 76 (dk_at dksX0_tell_0 17 rfl rfl)
theorem dX0_tell_20 : decode cX0_tell 20 = .ok (.istore_n 3, 1) := dk_62 (dk_at dksX0_tell_0 20 rfl rfl)
theorem dX0_tell_21 : decode cX0_tell 21 = .ok (.aload_n 2, 1) := dk_44 (dk_at dksX0_tell_0 21 rfl rfl)
theorem dX0_tell_22 : decode cX0_tell 22 = .ok (.aload_n 2, 1) := dk_44 (dk_at dksX0_tell_0 22 rfl rfl)
theorem dX0_tell_23 : decode cX0_tell 23 = .ok (.invokevirtual 236, 3) := dk_182 0 236 (dk_at dksX0_tell_1 0 rfl rfl)
theorem dX0_tell_26 : decode cX0_tell 26 = .ok (.ifCond .eq 15, 3) := dk_153 0 15 (dk_at dksX0_tell_1 3 rfl rfl)
theorem dX0_tell_29 : decode cX0_tell 29 = .ok (.sipush 999, 3) := dk_17 3 231 (dk_at dksX0_tell_1 6 rfl rfl)
theorem dX0_tell_32 : decode cX0_tell 32 = .ok (.iload_n 3, 1) := dk_29 (dk_at dksX0_tell_1 9 rfl rfl)
theorem dX0_tell_33 : decode cX0_tell 33 = .ok (.iconst 1, 1) := dk_4 (dk_at dksX0_tell_1 10 rfl rfl)
theorem dX0_tell_34 : decode cX0_tell 34 = .ok (.iadd, 1) := dk_96 (dk_at dksX0_tell_1 11 rfl rfl)
theorem dX0_tell_35 : decode cX0_tell 35 = .ok (.invokestatic 239, 3) := dk_184 0 239 (dk_at dksX0_tell_1 12 rfl rfl)
theorem dX0_tell_38 : decode cX0_tell 38 = .ok (.goto 4, 3) := dk_167 0 4 (dk_at dksX0_tell_1 15 rfl rfl)
theorem dX0_tell_41 : decode cX0_tell 41 = .ok (.iload_n 3, 1) := dk_29 (dk_at dksX0_tell_1 18 rfl rfl)
theorem dX0_tell_42 : decode cX0_tell 42 = .ok (.putfield 76, 3) := dk_181 0 76 (dk_at dksX0_tell_1 19 rfl rfl)
theorem dX0_tell_45 : decode cX0_tell 45 = .ok (.aload_n 2, 1) := dk_44 (dk_at dksX0_tell_1 22 rfl rfl)
theorem dX0_tell_46 : decode cX0_tell 46 = .ok (.invokevirtual 242, 3) := dk_182 0 242 (dk_at dksX0_tell_2 0 rfl rfl)
theorem dX0_tell_49 : decode cX0_tell 49 = .ok (.ifCond .ne 8, 3) := dk_154 0 8 (dk_at dksX0_tell_2 3 rfl rfl)
theorem dX0_tell_52 : decode cX0_tell 52 = .ok (.aload_n 0, 1) := dk_42 (dk_at dksX0_tell_2 6 rfl rfl)
theorem dX0_tell_53 : decode cX0_tell 53 = .ok (.iload_n 1, 1) := dk_27 (dk_at dksX0_tell_2 7 rfl rfl)
theorem dX0_tell_54 : decode cX0_tell 54 = .ok (.invokevirtual 233, 3) := dk_182 0 233 (dk_at dksX0_tell_2 8 rfl rfl)
theorem dX0_tell_57 : decode cX0_tell 57 = .ok (.iload_n 3, 1) := dk_29 (dk_at dksX0_tell_2 11 rfl rfl)
theorem dX0_tell_58 : decode cX0_tell 58 = .ok (.ireturn, 1) := dk_172 (dk_at dksX0_tell_2 12 rfl rfl)
abbrev cX0_flatten : ByteArray := prog_1_method_32_code
def yX0_flatten : MethodName := ⟨RX0, "flatten", "()I"⟩
def dkwX0_flatten_1 : List UInt8 := [42, 180, 0, 16, 1, 42, 180, 0, 16, 180, 0, 185, 182, 0, 245, 172]
abbrev dktX0_flatten_1 : List UInt8 := dkwX0_flatten_1 ++ []
def dkwX0_flatten_0 : List UInt8 := [42, 182, 0, 205, 154, 0, 6, 16, 153, 172, 42, 180, 0, 16, 180, 0, 167, 154, 0, 7, 3, 167, 0, 18]
abbrev dktX0_flatten_0 : List UInt8 := dkwX0_flatten_0 ++ dktX0_flatten_1
theorem dksX0_flatten_0 : cX0_flatten.data.toList.drop 0 = dktX0_flatten_0 := by decide +kernel
theorem dksX0_flatten_1 : cX0_flatten.data.toList.drop 24 = dktX0_flatten_1 := dk_seg dksX0_flatten_0 24 rfl rfl
theorem dX0_flatten_0 : decode cX0_flatten 0 = .ok (.aload_n 0, 1) := dk_42 (dk_at dksX0_flatten_0 0 rfl rfl)
theorem dX0_flatten_1 : decode cX0_flatten 1 = .ok (.invokevirtual 205, 3) := dk_182 0 205 (dk_at dksX0_flatten_0 1 rfl rfl)
theorem dX0_flatten_4 : decode cX0_flatten 4 = .ok (.ifCond .ne 6, 3) := dk_154 0 6 (dk_at dksX0_flatten_0 4 rfl rfl)
theorem dX0_flatten_7 : decode cX0_flatten 7 = .ok (.bipush (-103), 2) := dk_16 153 (dk_at dksX0_flatten_0 7 rfl rfl)
theorem dX0_flatten_9 : decode cX0_flatten 9 = .ok (.ireturn, 1) := dk_172 (dk_at dksX0_flatten_0 9 rfl rfl)
theorem dX0_flatten_10 : decode cX0_flatten 10 = .ok (.aload_n 0, 1) := dk_42 (dk_at dksX0_flatten_0 10 rfl rfl)
theorem dX0_flatten_11 : decode cX0_flatten 11 = .ok (.getfield 16, 3) := dk_180 0 16 (dk_at dksX0_flatten_0 11 rfl rfl)
theorem dX0_flatten_14 : decode cX0_flatten 14 = .ok (.getfield 167, 3) := dk_180 0 167 (dk_at dksX0_flatten_0 14 rfl rfl)
theorem dX0_flatten_17 : decode cX0_flatten 17 = .ok (.ifCond .ne 7, 3) := dk_154 0 7 (dk_at dksX0_flatten_0 17 rfl rfl)
theorem dX0_flatten_20 : decode cX0_flatten 20 = .ok (.iconst 0, 1) := dk_3 (dk_at dksX0_flatten_0 20 rfl rfl)
theorem dX0_flatten_21 : decode cX0_flatten 21 = .ok (.goto 18, 3) := dk_167 0 18 (dk_at dksX0_flatten_0 21 rfl rfl)
theorem dX0_flatten_24 : decode cX0_flatten 24 = .ok (.aload_n 0, 1) := dk_42 (dk_at dksX0_flatten_1 0 rfl rfl)
theorem dX0_flatten_25 : decode cX0_flatten 25 = .ok (.getfield 16, 3) := dk_180 0 16 (dk_at dksX0_flatten_1 1 rfl rfl)
theorem dX0_flatten_28 : decode cX0_flatten 28 = .ok (.aconst_null, 1) := dk_1 (dk_at dksX0_flatten_1 4 rfl rfl)
theorem dX0_flatten_29 : decode cX0_flatten 29 = .ok (.aload_n 0, 1) := dk_42 (dk_at dksX0_flatten_1 5 rfl rfl)
theorem dX0_flatten_30 : decode cX0_flatten 30 = .ok (.getfield 16, 3) := dk_180 0 16 (dk_at dksX0_flatten_1 6 rfl rfl)
theorem dX0_flatten_33 : decode cX0_flatten 33 = .ok (.getfield 185, 3) := dk_180 0 185 (dk_at dksX0_flatten_1 9 rfl rfl)
theorem dX0_flatten_36 : decode cX0_flatten 36 = .ok (.invokevirtual 245, 3) := dk_182 0 245 (dk_at dksX0_flatten_1 12 rfl rfl)
theorem dX0_flatten_39 : decode cX0_flatten 39 = .ok (.ireturn, 1) := dk_172 (dk_at dksX0_flatten_1 15 rfl rfl)
abbrev cX0_ledger : ByteArray := prog_1_method_34_code
def yX0_ledger : MethodName := ⟨RX0, "ledger", "(I)I"⟩
def dkwX0_ledger_1 : List UInt8 := [182, 1, 12, 167, 0, 5, 16, 153, 172]
abbrev dktX0_ledger_1 : List UInt8 := dkwX0_ledger_1 ++ []
def dkwX0_ledger_0 : List UInt8 := [27, 3, 16, 6, 184, 0, 3, 154, 0, 6, 16, 154, 172, 42, 182, 0, 205, 153, 0, 11, 42, 27]
abbrev dktX0_ledger_0 : List UInt8 := dkwX0_ledger_0 ++ dktX0_ledger_1
theorem dksX0_ledger_0 : cX0_ledger.data.toList.drop 0 = dktX0_ledger_0 := by decide +kernel
theorem dksX0_ledger_1 : cX0_ledger.data.toList.drop 22 = dktX0_ledger_1 := dk_seg dksX0_ledger_0 22 rfl rfl
theorem dX0_ledger_0 : decode cX0_ledger 0 = .ok (.iload_n 1, 1) := dk_27 (dk_at dksX0_ledger_0 0 rfl rfl)
theorem dX0_ledger_1 : decode cX0_ledger 1 = .ok (.iconst 0, 1) := dk_3 (dk_at dksX0_ledger_0 1 rfl rfl)
theorem dX0_ledger_2 : decode cX0_ledger 2 = .ok (.bipush 6, 2) := dk_16 6 (dk_at dksX0_ledger_0 2 rfl rfl)
theorem dX0_ledger_4 : decode cX0_ledger 4 = .ok (.invokestatic 3, 3) := dk_184 0 3 (dk_at dksX0_ledger_0 4 rfl rfl)
theorem dX0_ledger_7 : decode cX0_ledger 7 = .ok (.ifCond .ne 6, 3) := dk_154 0 6 (dk_at dksX0_ledger_0 7 rfl rfl)
theorem dX0_ledger_10 : decode cX0_ledger 10 = .ok (.bipush (-102), 2) := dk_16 154 (dk_at dksX0_ledger_0 10 rfl rfl)
theorem dX0_ledger_12 : decode cX0_ledger 12 = .ok (.ireturn, 1) := dk_172 (dk_at dksX0_ledger_0 12 rfl rfl)
theorem dX0_ledger_13 : decode cX0_ledger 13 = .ok (.aload_n 0, 1) := dk_42 (dk_at dksX0_ledger_0 13 rfl rfl)
theorem dX0_ledger_14 : decode cX0_ledger 14 = .ok (.invokevirtual 205, 3) := dk_182 0 205 (dk_at dksX0_ledger_0 14 rfl rfl)
theorem dX0_ledger_17 : decode cX0_ledger 17 = .ok (.ifCond .eq 11, 3) := dk_153 0 11 (dk_at dksX0_ledger_0 17 rfl rfl)
theorem dX0_ledger_20 : decode cX0_ledger 20 = .ok (.aload_n 0, 1) := dk_42 (dk_at dksX0_ledger_0 20 rfl rfl)
theorem dX0_ledger_21 : decode cX0_ledger 21 = .ok (.iload_n 1, 1) := dk_27 (dk_at dksX0_ledger_0 21 rfl rfl)
theorem dX0_ledger_22 : decode cX0_ledger 22 = .ok (.invokevirtual 268, 3) := dk_182 1 12 (dk_at dksX0_ledger_1 0 rfl rfl)
theorem dX0_ledger_25 : decode cX0_ledger 25 = .ok (.goto 5, 3) := dk_167 0 5 (dk_at dksX0_ledger_1 3 rfl rfl)
theorem dX0_ledger_28 : decode cX0_ledger 28 = .ok (.bipush (-103), 2) := dk_16 153 (dk_at dksX0_ledger_1 6 rfl rfl)
theorem dX0_ledger_30 : decode cX0_ledger 30 = .ok (.ireturn, 1) := dk_172 (dk_at dksX0_ledger_1 8 rfl rfl)
abbrev cX0_ledgerTold : ByteArray := prog_1_method_33_code
def yX0_ledgerTold : MethodName := ⟨RX0, "ledgerTold", "(I)I"⟩
def dkwX0_ledgerTold_5 : List UInt8 := [180, 1, 9, 172]
abbrev dktX0_ledgerTold_5 : List UInt8 := dkwX0_ledgerTold_5 ++ []
def dkwX0_ledgerTold_4 : List UInt8 := [18, 255, 42, 180, 0, 16, 180, 1, 3, 96, 172, 42, 180, 0, 16, 180, 1, 6, 172, 42, 180, 0, 16]
abbrev dktX0_ledgerTold_4 : List UInt8 := dkwX0_ledgerTold_4 ++ dktX0_ledgerTold_5
def dkwX0_ledgerTold_3 : List UInt8 := [182, 0, 249, 172, 42, 180, 0, 16, 180, 0, 252, 172, 18, 255, 42, 180, 0, 16, 180, 1, 0, 96, 172]
abbrev dktX0_ledgerTold_3 : List UInt8 := dkwX0_ledgerTold_3 ++ dktX0_ledgerTold_4
def dkwX0_ledgerTold_2 : List UInt8 := [42, 180, 0, 16, 180, 0, 185, 184, 0, 90, 172, 42, 180, 0, 16, 42, 180, 0, 16, 180, 0, 167]
abbrev dktX0_ledgerTold_2 : List UInt8 := dkwX0_ledgerTold_2 ++ dktX0_ledgerTold_3
def dkwX0_ledgerTold_1 : List UInt8 := [170, 0, 0, 0, 0, 0, 103, 0, 0, 0, 0, 0, 0, 0, 5, 0, 0, 0, 39, 0, 0, 0, 50, 0, 0, 0, 65, 0, 0, 0, 73, 0, 0, 0, 84, 0, 0, 0, 95]
abbrev dktX0_ledgerTold_1 : List UInt8 := dkwX0_ledgerTold_1 ++ dktX0_ledgerTold_2
def dkwX0_ledgerTold_0 : List UInt8 := [27]
abbrev dktX0_ledgerTold_0 : List UInt8 := dkwX0_ledgerTold_0 ++ dktX0_ledgerTold_1
theorem dksX0_ledgerTold_0 : cX0_ledgerTold.data.toList.drop 0 = dktX0_ledgerTold_0 := by decide +kernel
theorem dksX0_ledgerTold_1 : cX0_ledgerTold.data.toList.drop 1 = dktX0_ledgerTold_1 := dk_seg dksX0_ledgerTold_0 1 rfl rfl
theorem dksX0_ledgerTold_2 : cX0_ledgerTold.data.toList.drop 40 = dktX0_ledgerTold_2 := dk_seg dksX0_ledgerTold_1 39 rfl rfl
theorem dksX0_ledgerTold_3 : cX0_ledgerTold.data.toList.drop 62 = dktX0_ledgerTold_3 := dk_seg dksX0_ledgerTold_2 22 rfl rfl
theorem dksX0_ledgerTold_4 : cX0_ledgerTold.data.toList.drop 85 = dktX0_ledgerTold_4 := dk_seg dksX0_ledgerTold_3 23 rfl rfl
theorem dksX0_ledgerTold_5 : cX0_ledgerTold.data.toList.drop 108 = dktX0_ledgerTold_5 := dk_seg dksX0_ledgerTold_4 23 rfl rfl
theorem dX0_ledgerTold_0 : decode cX0_ledgerTold 0 = .ok (.iload_n 1, 1) := dk_27 (dk_at dksX0_ledgerTold_0 0 rfl rfl)
theorem dX0_ledgerTold_1 : decode cX0_ledgerTold 1 = .ok (.tableswitch 103 0 5 #[39, 50, 65, 73, 84, 95], 39) := by decide +kernel
theorem dX0_ledgerTold_40 : decode cX0_ledgerTold 40 = .ok (.aload_n 0, 1) := dk_42 (dk_at dksX0_ledgerTold_2 0 rfl rfl)
theorem dX0_ledgerTold_41 : decode cX0_ledgerTold 41 = .ok (.getfield 16, 3) := dk_180 0 16 (dk_at dksX0_ledgerTold_2 1 rfl rfl)
theorem dX0_ledgerTold_44 : decode cX0_ledgerTold 44 = .ok (.getfield 185, 3) := dk_180 0 185 (dk_at dksX0_ledgerTold_2 4 rfl rfl)
theorem dX0_ledgerTold_47 : decode cX0_ledgerTold 47 = .ok (.invokestatic 90, 3) := dk_184 0 90 (dk_at dksX0_ledgerTold_2 7 rfl rfl)
theorem dX0_ledgerTold_50 : decode cX0_ledgerTold 50 = .ok (.ireturn, 1) := dk_172 (dk_at dksX0_ledgerTold_2 10 rfl rfl)
theorem dX0_ledgerTold_51 : decode cX0_ledgerTold 51 = .ok (.aload_n 0, 1) := dk_42 (dk_at dksX0_ledgerTold_2 11 rfl rfl)
theorem dX0_ledgerTold_52 : decode cX0_ledgerTold 52 = .ok (.getfield 16, 3) := dk_180 0 16 (dk_at dksX0_ledgerTold_2 12 rfl rfl)
theorem dX0_ledgerTold_55 : decode cX0_ledgerTold 55 = .ok (.aload_n 0, 1) := dk_42 (dk_at dksX0_ledgerTold_2 15 rfl rfl)
theorem dX0_ledgerTold_56 : decode cX0_ledgerTold 56 = .ok (.getfield 16, 3) := dk_180 0 16 (dk_at dksX0_ledgerTold_2 16 rfl rfl)
theorem dX0_ledgerTold_59 : decode cX0_ledgerTold 59 = .ok (.getfield 167, 3) := dk_180 0 167 (dk_at dksX0_ledgerTold_2 19 rfl rfl)
theorem dX0_ledgerTold_62 : decode cX0_ledgerTold 62 = .ok (.invokevirtual 249, 3) := dk_182 0 249 (dk_at dksX0_ledgerTold_3 0 rfl rfl)
theorem dX0_ledgerTold_65 : decode cX0_ledgerTold 65 = .ok (.ireturn, 1) := dk_172 (dk_at dksX0_ledgerTold_3 3 rfl rfl)
theorem dX0_ledgerTold_66 : decode cX0_ledgerTold 66 = .ok (.aload_n 0, 1) := dk_42 (dk_at dksX0_ledgerTold_3 4 rfl rfl)
theorem dX0_ledgerTold_67 : decode cX0_ledgerTold 67 = .ok (.getfield 16, 3) := dk_180 0 16 (dk_at dksX0_ledgerTold_3 5 rfl rfl)
theorem dX0_ledgerTold_70 : decode cX0_ledgerTold 70 = .ok (.getfield 252, 3) := dk_180 0 252 (dk_at dksX0_ledgerTold_3 8 rfl rfl)
theorem dX0_ledgerTold_73 : decode cX0_ledgerTold 73 = .ok (.ireturn, 1) := dk_172 (dk_at dksX0_ledgerTold_3 11 rfl rfl)
theorem dX0_ledgerTold_74 : decode cX0_ledgerTold 74 = .ok (.ldc 255, 2) := dk_18 255 (dk_at dksX0_ledgerTold_3 12 rfl rfl)
theorem dX0_ledgerTold_76 : decode cX0_ledgerTold 76 = .ok (.aload_n 0, 1) := dk_42 (dk_at dksX0_ledgerTold_3 14 rfl rfl)
theorem dX0_ledgerTold_77 : decode cX0_ledgerTold 77 = .ok (.getfield 16, 3) := dk_180 0 16 (dk_at dksX0_ledgerTold_3 15 rfl rfl)
theorem dX0_ledgerTold_80 : decode cX0_ledgerTold 80 = .ok (.getfield 256, 3) := dk_180 1 0 (dk_at dksX0_ledgerTold_3 18 rfl rfl)
theorem dX0_ledgerTold_83 : decode cX0_ledgerTold 83 = .ok (.iadd, 1) := dk_96 (dk_at dksX0_ledgerTold_3 21 rfl rfl)
theorem dX0_ledgerTold_84 : decode cX0_ledgerTold 84 = .ok (.ireturn, 1) := dk_172 (dk_at dksX0_ledgerTold_3 22 rfl rfl)
theorem dX0_ledgerTold_85 : decode cX0_ledgerTold 85 = .ok (.ldc 255, 2) := dk_18 255 (dk_at dksX0_ledgerTold_4 0 rfl rfl)
theorem dX0_ledgerTold_87 : decode cX0_ledgerTold 87 = .ok (.aload_n 0, 1) := dk_42 (dk_at dksX0_ledgerTold_4 2 rfl rfl)
theorem dX0_ledgerTold_88 : decode cX0_ledgerTold 88 = .ok (.getfield 16, 3) := dk_180 0 16 (dk_at dksX0_ledgerTold_4 3 rfl rfl)
theorem dX0_ledgerTold_91 : decode cX0_ledgerTold 91 = .ok (.getfield 259, 3) := dk_180 1 3 (dk_at dksX0_ledgerTold_4 6 rfl rfl)
theorem dX0_ledgerTold_94 : decode cX0_ledgerTold 94 = .ok (.iadd, 1) := dk_96 (dk_at dksX0_ledgerTold_4 9 rfl rfl)
theorem dX0_ledgerTold_95 : decode cX0_ledgerTold 95 = .ok (.ireturn, 1) := dk_172 (dk_at dksX0_ledgerTold_4 10 rfl rfl)
theorem dX0_ledgerTold_96 : decode cX0_ledgerTold 96 = .ok (.aload_n 0, 1) := dk_42 (dk_at dksX0_ledgerTold_4 11 rfl rfl)
theorem dX0_ledgerTold_97 : decode cX0_ledgerTold 97 = .ok (.getfield 16, 3) := dk_180 0 16 (dk_at dksX0_ledgerTold_4 12 rfl rfl)
theorem dX0_ledgerTold_100 : decode cX0_ledgerTold 100 = .ok (.getfield 262, 3) := dk_180 1 6 (dk_at dksX0_ledgerTold_4 15 rfl rfl)
theorem dX0_ledgerTold_103 : decode cX0_ledgerTold 103 = .ok (.ireturn, 1) := dk_172 (dk_at dksX0_ledgerTold_4 18 rfl rfl)
theorem dX0_ledgerTold_104 : decode cX0_ledgerTold 104 = .ok (.aload_n 0, 1) := dk_42 (dk_at dksX0_ledgerTold_4 19 rfl rfl)
theorem dX0_ledgerTold_105 : decode cX0_ledgerTold 105 = .ok (.getfield 16, 3) := dk_180 0 16 (dk_at dksX0_ledgerTold_4 20 rfl rfl)
theorem dX0_ledgerTold_108 : decode cX0_ledgerTold 108 = .ok (.getfield 265, 3) := dk_180 1 9 (dk_at dksX0_ledgerTold_5 0 rfl rfl)
theorem dX0_ledgerTold_111 : decode cX0_ledgerTold 111 = .ok (.ireturn, 1) := dk_172 (dk_at dksX0_ledgerTold_5 3 rfl rfl)
abbrev cX0_tallOf : ByteArray := prog_1_method_7_code
def yX0_tallOf : MethodName := ⟨RX0, "tallOf", "(LCreditShelf$Entry;)I"⟩
def dkwX0_tallOf_1 : List UInt8 := [184, 0, 93, 96, 172]
abbrev dktX0_tallOf_1 : List UInt8 := dkwX0_tallOf_1 ++ []
def dkwX0_tallOf_0 : List UInt8 := [42, 199, 0, 7, 2, 167, 0, 22, 4, 42, 180, 0, 79, 184, 0, 90, 42, 180, 0, 87, 184, 0, 90]
abbrev dktX0_tallOf_0 : List UInt8 := dkwX0_tallOf_0 ++ dktX0_tallOf_1
theorem dksX0_tallOf_0 : cX0_tallOf.data.toList.drop 0 = dktX0_tallOf_0 := by decide +kernel
theorem dksX0_tallOf_1 : cX0_tallOf.data.toList.drop 23 = dktX0_tallOf_1 := dk_seg dksX0_tallOf_0 23 rfl rfl
theorem dX0_tallOf_0 : decode cX0_tallOf 0 = .ok (.aload_n 0, 1) := dk_42 (dk_at dksX0_tallOf_0 0 rfl rfl)
theorem dX0_tallOf_1 : decode cX0_tallOf 1 = .ok (.ifnonnull 7, 3) := dk_199 0 7 (dk_at dksX0_tallOf_0 1 rfl rfl)
theorem dX0_tallOf_4 : decode cX0_tallOf 4 = .ok (.iconst (-1), 1) := dk_2 (dk_at dksX0_tallOf_0 4 rfl rfl)
theorem dX0_tallOf_5 : decode cX0_tallOf 5 = .ok (.goto 22, 3) := dk_167 0 22 (dk_at dksX0_tallOf_0 5 rfl rfl)
theorem dX0_tallOf_8 : decode cX0_tallOf 8 = .ok (.iconst 1, 1) := dk_4 (dk_at dksX0_tallOf_0 8 rfl rfl)
theorem dX0_tallOf_9 : decode cX0_tallOf 9 = .ok (.aload_n 0, 1) := dk_42 (dk_at dksX0_tallOf_0 9 rfl rfl)
theorem dX0_tallOf_10 : decode cX0_tallOf 10 = .ok (.getfield 79, 3) := dk_180 0 79 (dk_at dksX0_tallOf_0 10 rfl rfl)
theorem dX0_tallOf_13 : decode cX0_tallOf 13 = .ok (.invokestatic 90, 3) := dk_184 0 90 (dk_at dksX0_tallOf_0 13 rfl rfl)
theorem dX0_tallOf_16 : decode cX0_tallOf 16 = .ok (.aload_n 0, 1) := dk_42 (dk_at dksX0_tallOf_0 16 rfl rfl)
theorem dX0_tallOf_17 : decode cX0_tallOf 17 = .ok (.getfield 87, 3) := dk_180 0 87 (dk_at dksX0_tallOf_0 17 rfl rfl)
theorem dX0_tallOf_20 : decode cX0_tallOf 20 = .ok (.invokestatic 90, 3) := dk_184 0 90 (dk_at dksX0_tallOf_0 20 rfl rfl)
theorem dX0_tallOf_23 : decode cX0_tallOf 23 = .ok (.invokestatic 93, 3) := dk_184 0 93 (dk_at dksX0_tallOf_1 0 rfl rfl)
theorem dX0_tallOf_26 : decode cX0_tallOf 26 = .ok (.iadd, 1) := dk_96 (dk_at dksX0_tallOf_1 3 rfl rfl)
theorem dX0_tallOf_27 : decode cX0_tallOf 27 = .ok (.ireturn, 1) := dk_172 (dk_at dksX0_tallOf_1 4 rfl rfl)
abbrev cX0_would : ByteArray := prog_1_method_36_code
def yX0_would : MethodName := ⟨RX0, "would", "(I)I"⟩
def dkwX0_would_1 : List UInt8 := [180, 0, 167, 16, 40, 160, 0, 8, 16, 153, 167, 0, 8, 42, 27, 182, 1, 18, 172]
abbrev dktX0_would_1 : List UInt8 := dkwX0_would_1 ++ []
def dkwX0_would_0 : List UInt8 := [27, 3, 16, 99, 184, 0, 3, 154, 0, 6, 16, 154, 172, 42, 182, 0, 205, 153, 0, 15, 42, 180, 0, 16]
abbrev dktX0_would_0 : List UInt8 := dkwX0_would_0 ++ dktX0_would_1
theorem dksX0_would_0 : cX0_would.data.toList.drop 0 = dktX0_would_0 := by decide +kernel
theorem dksX0_would_1 : cX0_would.data.toList.drop 24 = dktX0_would_1 := dk_seg dksX0_would_0 24 rfl rfl
theorem dX0_would_0 : decode cX0_would 0 = .ok (.iload_n 1, 1) := dk_27 (dk_at dksX0_would_0 0 rfl rfl)
theorem dX0_would_1 : decode cX0_would 1 = .ok (.iconst 0, 1) := dk_3 (dk_at dksX0_would_0 1 rfl rfl)
theorem dX0_would_2 : decode cX0_would 2 = .ok (.bipush 99, 2) := dk_16 99 (dk_at dksX0_would_0 2 rfl rfl)
theorem dX0_would_4 : decode cX0_would 4 = .ok (.invokestatic 3, 3) := dk_184 0 3 (dk_at dksX0_would_0 4 rfl rfl)
theorem dX0_would_7 : decode cX0_would 7 = .ok (.ifCond .ne 6, 3) := dk_154 0 6 (dk_at dksX0_would_0 7 rfl rfl)
theorem dX0_would_10 : decode cX0_would 10 = .ok (.bipush (-102), 2) := dk_16 154 (dk_at dksX0_would_0 10 rfl rfl)
theorem dX0_would_12 : decode cX0_would 12 = .ok (.ireturn, 1) := dk_172 (dk_at dksX0_would_0 12 rfl rfl)
theorem dX0_would_13 : decode cX0_would 13 = .ok (.aload_n 0, 1) := dk_42 (dk_at dksX0_would_0 13 rfl rfl)
theorem dX0_would_14 : decode cX0_would 14 = .ok (.invokevirtual 205, 3) := dk_182 0 205 (dk_at dksX0_would_0 14 rfl rfl)
theorem dX0_would_17 : decode cX0_would 17 = .ok (.ifCond .eq 15, 3) := dk_153 0 15 (dk_at dksX0_would_0 17 rfl rfl)
theorem dX0_would_20 : decode cX0_would 20 = .ok (.aload_n 0, 1) := dk_42 (dk_at dksX0_would_0 20 rfl rfl)
theorem dX0_would_21 : decode cX0_would 21 = .ok (.getfield 16, 3) := dk_180 0 16 (dk_at dksX0_would_0 21 rfl rfl)
theorem dX0_would_24 : decode cX0_would 24 = .ok (.getfield 167, 3) := dk_180 0 167 (dk_at dksX0_would_1 0 rfl rfl)
theorem dX0_would_27 : decode cX0_would 27 = .ok (.bipush 40, 2) := dk_16 40 (dk_at dksX0_would_1 3 rfl rfl)
theorem dX0_would_29 : decode cX0_would 29 = .ok (.if_icmp .ne 8, 3) := dk_160 0 8 (dk_at dksX0_would_1 5 rfl rfl)
theorem dX0_would_32 : decode cX0_would 32 = .ok (.bipush (-103), 2) := dk_16 153 (dk_at dksX0_would_1 8 rfl rfl)
theorem dX0_would_34 : decode cX0_would 34 = .ok (.goto 8, 3) := dk_167 0 8 (dk_at dksX0_would_1 10 rfl rfl)
theorem dX0_would_37 : decode cX0_would 37 = .ok (.aload_n 0, 1) := dk_42 (dk_at dksX0_would_1 13 rfl rfl)
theorem dX0_would_38 : decode cX0_would 38 = .ok (.iload_n 1, 1) := dk_27 (dk_at dksX0_would_1 14 rfl rfl)
theorem dX0_would_39 : decode cX0_would 39 = .ok (.invokevirtual 274, 3) := dk_182 1 18 (dk_at dksX0_would_1 15 rfl rfl)
theorem dX0_would_42 : decode cX0_would 42 = .ok (.ireturn, 1) := dk_172 (dk_at dksX0_would_1 18 rfl rfl)
abbrev cX0_wouldBuild : ByteArray := prog_1_method_35_code
def yX0_wouldBuild : MethodName := ⟨RX0, "wouldBuild", "(I)I"⟩
def dkwX0_wouldBuild_0 : List UInt8 := [42, 180, 0, 16, 27, 182, 0, 188, 198, 0, 7, 2, 167, 0, 11, 42, 180, 0, 16, 27, 182, 1, 15, 172]
abbrev dktX0_wouldBuild_0 : List UInt8 := dkwX0_wouldBuild_0 ++ []
theorem dksX0_wouldBuild_0 : cX0_wouldBuild.data.toList.drop 0 = dktX0_wouldBuild_0 := by decide +kernel
theorem dX0_wouldBuild_0 : decode cX0_wouldBuild 0 = .ok (.aload_n 0, 1) := dk_42 (dk_at dksX0_wouldBuild_0 0 rfl rfl)
theorem dX0_wouldBuild_1 : decode cX0_wouldBuild 1 = .ok (.getfield 16, 3) := dk_180 0 16 (dk_at dksX0_wouldBuild_0 1 rfl rfl)
theorem dX0_wouldBuild_4 : decode cX0_wouldBuild 4 = .ok (.iload_n 1, 1) := dk_27 (dk_at dksX0_wouldBuild_0 4 rfl rfl)
theorem dX0_wouldBuild_5 : decode cX0_wouldBuild 5 = .ok (.invokevirtual 188, 3) := dk_182 0 188 (dk_at dksX0_wouldBuild_0 5 rfl rfl)
theorem dX0_wouldBuild_8 : decode cX0_wouldBuild 8 = .ok (.ifnull 7, 3) := dk_198 0 7 (dk_at dksX0_wouldBuild_0 8 rfl rfl)
theorem dX0_wouldBuild_11 : decode cX0_wouldBuild 11 = .ok (.iconst (-1), 1) := dk_2 (dk_at dksX0_wouldBuild_0 11 rfl rfl)
theorem dX0_wouldBuild_12 : decode cX0_wouldBuild 12 = .ok (.goto 11, 3) := dk_167 0 11 (dk_at dksX0_wouldBuild_0 12 rfl rfl)
theorem dX0_wouldBuild_15 : decode cX0_wouldBuild 15 = .ok (.aload_n 0, 1) := dk_42 (dk_at dksX0_wouldBuild_0 15 rfl rfl)
theorem dX0_wouldBuild_16 : decode cX0_wouldBuild 16 = .ok (.getfield 16, 3) := dk_180 0 16 (dk_at dksX0_wouldBuild_0 16 rfl rfl)
theorem dX0_wouldBuild_19 : decode cX0_wouldBuild 19 = .ok (.iload_n 1, 1) := dk_27 (dk_at dksX0_wouldBuild_0 19 rfl rfl)
theorem dX0_wouldBuild_20 : decode cX0_wouldBuild 20 = .ok (.invokevirtual 271, 3) := dk_182 1 15 (dk_at dksX0_wouldBuild_0 20 rfl rfl)
theorem dX0_wouldBuild_23 : decode cX0_wouldBuild 23 = .ok (.ireturn, 1) := dk_172 (dk_at dksX0_wouldBuild_0 23 rfl rfl)
abbrev cX0_dear : ByteArray := prog_1_method_38_code
def yX0_dear : MethodName := ⟨RX0, "dear", "(I)I"⟩
def dkwX0_dear_1 : List UInt8 := [167, 0, 5, 16, 153, 172]
abbrev dktX0_dear_1 : List UInt8 := dkwX0_dear_1 ++ []
def dkwX0_dear_0 : List UInt8 := [27, 3, 4, 184, 0, 3, 154, 0, 6, 16, 154, 172, 42, 182, 0, 205, 153, 0, 11, 42, 27, 182, 1, 21]
abbrev dktX0_dear_0 : List UInt8 := dkwX0_dear_0 ++ dktX0_dear_1
theorem dksX0_dear_0 : cX0_dear.data.toList.drop 0 = dktX0_dear_0 := by decide +kernel
theorem dksX0_dear_1 : cX0_dear.data.toList.drop 24 = dktX0_dear_1 := dk_seg dksX0_dear_0 24 rfl rfl
theorem dX0_dear_0 : decode cX0_dear 0 = .ok (.iload_n 1, 1) := dk_27 (dk_at dksX0_dear_0 0 rfl rfl)
theorem dX0_dear_1 : decode cX0_dear 1 = .ok (.iconst 0, 1) := dk_3 (dk_at dksX0_dear_0 1 rfl rfl)
theorem dX0_dear_2 : decode cX0_dear 2 = .ok (.iconst 1, 1) := dk_4 (dk_at dksX0_dear_0 2 rfl rfl)
theorem dX0_dear_3 : decode cX0_dear 3 = .ok (.invokestatic 3, 3) := dk_184 0 3 (dk_at dksX0_dear_0 3 rfl rfl)
theorem dX0_dear_6 : decode cX0_dear 6 = .ok (.ifCond .ne 6, 3) := dk_154 0 6 (dk_at dksX0_dear_0 6 rfl rfl)
theorem dX0_dear_9 : decode cX0_dear 9 = .ok (.bipush (-102), 2) := dk_16 154 (dk_at dksX0_dear_0 9 rfl rfl)
theorem dX0_dear_11 : decode cX0_dear 11 = .ok (.ireturn, 1) := dk_172 (dk_at dksX0_dear_0 11 rfl rfl)
theorem dX0_dear_12 : decode cX0_dear 12 = .ok (.aload_n 0, 1) := dk_42 (dk_at dksX0_dear_0 12 rfl rfl)
theorem dX0_dear_13 : decode cX0_dear 13 = .ok (.invokevirtual 205, 3) := dk_182 0 205 (dk_at dksX0_dear_0 13 rfl rfl)
theorem dX0_dear_16 : decode cX0_dear 16 = .ok (.ifCond .eq 11, 3) := dk_153 0 11 (dk_at dksX0_dear_0 16 rfl rfl)
theorem dX0_dear_19 : decode cX0_dear 19 = .ok (.aload_n 0, 1) := dk_42 (dk_at dksX0_dear_0 19 rfl rfl)
theorem dX0_dear_20 : decode cX0_dear 20 = .ok (.iload_n 1, 1) := dk_27 (dk_at dksX0_dear_0 20 rfl rfl)
theorem dX0_dear_21 : decode cX0_dear 21 = .ok (.invokevirtual 277, 3) := dk_182 1 21 (dk_at dksX0_dear_0 21 rfl rfl)
theorem dX0_dear_24 : decode cX0_dear 24 = .ok (.goto 5, 3) := dk_167 0 5 (dk_at dksX0_dear_1 0 rfl rfl)
theorem dX0_dear_27 : decode cX0_dear 27 = .ok (.bipush (-103), 2) := dk_16 153 (dk_at dksX0_dear_1 3 rfl rfl)
theorem dX0_dear_29 : decode cX0_dear 29 = .ok (.ireturn, 1) := dk_172 (dk_at dksX0_dear_1 5 rfl rfl)
abbrev cX0_dearTold : ByteArray := prog_1_method_37_code
def yX0_dearTold : MethodName := ⟨RX0, "dearTold", "(I)I"⟩
def dkwX0_dearTold_2 : List UInt8 := [29, 21, 5, 184, 0, 93, 62, 132, 4, 1, 167, 255, 206, 27, 154, 0, 7, 28, 167, 0, 4, 29, 172]
abbrev dktX0_dearTold_2 : List UInt8 := dkwX0_dearTold_2 ++ []
def dkwX0_dearTold_1 : List UInt8 := [162, 0, 37, 42, 21, 4, 182, 1, 18, 54, 5, 21, 5, 29, 164, 0, 8, 21, 4, 167, 0, 4, 28, 61]
abbrev dktX0_dearTold_1 : List UInt8 := dkwX0_dearTold_1 ++ dktX0_dearTold_2
def dkwX0_dearTold_0 : List UInt8 := [2, 61, 2, 62, 3, 54, 4, 21, 4, 16, 100, 162, 0, 49, 42, 180, 0, 16, 180, 0, 167, 16, 40]
abbrev dktX0_dearTold_0 : List UInt8 := dkwX0_dearTold_0 ++ dktX0_dearTold_1
theorem dksX0_dearTold_0 : cX0_dearTold.data.toList.drop 0 = dktX0_dearTold_0 := by decide +kernel
theorem dksX0_dearTold_1 : cX0_dearTold.data.toList.drop 23 = dktX0_dearTold_1 := dk_seg dksX0_dearTold_0 23 rfl rfl
theorem dksX0_dearTold_2 : cX0_dearTold.data.toList.drop 47 = dktX0_dearTold_2 := dk_seg dksX0_dearTold_1 24 rfl rfl
theorem dX0_dearTold_0 : decode cX0_dearTold 0 = .ok (.iconst (-1), 1) := dk_2 (dk_at dksX0_dearTold_0 0 rfl rfl)
theorem dX0_dearTold_1 : decode cX0_dearTold 1 = .ok (.istore_n 2, 1) := dk_61 (dk_at dksX0_dearTold_0 1 rfl rfl)
theorem dX0_dearTold_2 : decode cX0_dearTold 2 = .ok (.iconst (-1), 1) := dk_2 (dk_at dksX0_dearTold_0 2 rfl rfl)
theorem dX0_dearTold_3 : decode cX0_dearTold 3 = .ok (.istore_n 3, 1) := dk_62 (dk_at dksX0_dearTold_0 3 rfl rfl)
theorem dX0_dearTold_4 : decode cX0_dearTold 4 = .ok (.iconst 0, 1) := dk_3 (dk_at dksX0_dearTold_0 4 rfl rfl)
theorem dX0_dearTold_5 : decode cX0_dearTold 5 = .ok (.istore 4, 2) := dk_54 4 (dk_at dksX0_dearTold_0 5 rfl rfl)
theorem dX0_dearTold_7 : decode cX0_dearTold 7 = .ok (.iload 4, 2) := dk_21 4 (dk_at dksX0_dearTold_0 7 rfl rfl)
theorem dX0_dearTold_9 : decode cX0_dearTold 9 = .ok (.bipush 100, 2) := dk_16 100 (dk_at dksX0_dearTold_0 9 rfl rfl)
theorem dX0_dearTold_11 : decode cX0_dearTold 11 = .ok (.if_icmp .ge 49, 3) := dk_162 0 49 (dk_at dksX0_dearTold_0 11 rfl rfl)
theorem dX0_dearTold_14 : decode cX0_dearTold 14 = .ok (.aload_n 0, 1) := dk_42 (dk_at dksX0_dearTold_0 14 rfl rfl)
theorem dX0_dearTold_15 : decode cX0_dearTold 15 = .ok (.getfield 16, 3) := dk_180 0 16 (dk_at dksX0_dearTold_0 15 rfl rfl)
theorem dX0_dearTold_18 : decode cX0_dearTold 18 = .ok (.getfield 167, 3) := dk_180 0 167 (dk_at dksX0_dearTold_0 18 rfl rfl)
theorem dX0_dearTold_21 : decode cX0_dearTold 21 = .ok (.bipush 40, 2) := dk_16 40 (dk_at dksX0_dearTold_0 21 rfl rfl)
theorem dX0_dearTold_23 : decode cX0_dearTold 23 = .ok (.if_icmp .ge 37, 3) := dk_162 0 37 (dk_at dksX0_dearTold_1 0 rfl rfl)
theorem dX0_dearTold_26 : decode cX0_dearTold 26 = .ok (.aload_n 0, 1) := dk_42 (dk_at dksX0_dearTold_1 3 rfl rfl)
theorem dX0_dearTold_27 : decode cX0_dearTold 27 = .ok (.iload 4, 2) := dk_21 4 (dk_at dksX0_dearTold_1 4 rfl rfl)
theorem dX0_dearTold_29 : decode cX0_dearTold 29 = .ok (.invokevirtual 274, 3) := dk_182 1 18 (dk_at dksX0_dearTold_1 6 rfl rfl)
theorem dX0_dearTold_32 : decode cX0_dearTold 32 = .ok (.istore 5, 2) := dk_54 5 (dk_at dksX0_dearTold_1 9 rfl rfl)
theorem dX0_dearTold_34 : decode cX0_dearTold 34 = .ok (.iload 5, 2) := dk_21 5 (dk_at dksX0_dearTold_1 11 rfl rfl)
theorem dX0_dearTold_36 : decode cX0_dearTold 36 = .ok (.iload_n 3, 1) := dk_29 (dk_at dksX0_dearTold_1 13 rfl rfl)
theorem dX0_dearTold_37 : decode cX0_dearTold 37 = .ok (.if_icmp .le 8, 3) := dk_164 0 8 (dk_at dksX0_dearTold_1 14 rfl rfl)
theorem dX0_dearTold_40 : decode cX0_dearTold 40 = .ok (.iload 4, 2) := dk_21 4 (dk_at dksX0_dearTold_1 17 rfl rfl)
theorem dX0_dearTold_42 : decode cX0_dearTold 42 = .ok (.goto 4, 3) := dk_167 0 4 (dk_at dksX0_dearTold_1 19 rfl rfl)
theorem dX0_dearTold_45 : decode cX0_dearTold 45 = .ok (.iload_n 2, 1) := dk_28 (dk_at dksX0_dearTold_1 22 rfl rfl)
theorem dX0_dearTold_46 : decode cX0_dearTold 46 = .ok (.istore_n 2, 1) := dk_61 (dk_at dksX0_dearTold_1 23 rfl rfl)
theorem dX0_dearTold_47 : decode cX0_dearTold 47 = .ok (.iload_n 3, 1) := dk_29 (dk_at dksX0_dearTold_2 0 rfl rfl)
theorem dX0_dearTold_48 : decode cX0_dearTold 48 = .ok (.iload 5, 2) := dk_21 5 (dk_at dksX0_dearTold_2 1 rfl rfl)
theorem dX0_dearTold_50 : decode cX0_dearTold 50 = .ok (.invokestatic 93, 3) := dk_184 0 93 (dk_at dksX0_dearTold_2 3 rfl rfl)
theorem dX0_dearTold_53 : decode cX0_dearTold 53 = .ok (.istore_n 3, 1) := dk_62 (dk_at dksX0_dearTold_2 6 rfl rfl)
theorem dX0_dearTold_54 : decode cX0_dearTold 54 = .ok (.iinc 4 1, 3) := dk_132 4 1 (dk_at dksX0_dearTold_2 7 rfl rfl)
theorem dX0_dearTold_57 : decode cX0_dearTold 57 = .ok (.goto (-50), 3) := dk_167 255 206 (dk_at dksX0_dearTold_2 10 rfl rfl)
theorem dX0_dearTold_60 : decode cX0_dearTold 60 = .ok (.iload_n 1, 1) := dk_27 (dk_at dksX0_dearTold_2 13 rfl rfl)
theorem dX0_dearTold_61 : decode cX0_dearTold 61 = .ok (.ifCond .ne 7, 3) := dk_154 0 7 (dk_at dksX0_dearTold_2 14 rfl rfl)
theorem dX0_dearTold_64 : decode cX0_dearTold 64 = .ok (.iload_n 2, 1) := dk_28 (dk_at dksX0_dearTold_2 17 rfl rfl)
theorem dX0_dearTold_65 : decode cX0_dearTold 65 = .ok (.goto 4, 3) := dk_167 0 4 (dk_at dksX0_dearTold_2 18 rfl rfl)
theorem dX0_dearTold_68 : decode cX0_dearTold 68 = .ok (.iload_n 3, 1) := dk_29 (dk_at dksX0_dearTold_2 21 rfl rfl)
theorem dX0_dearTold_69 : decode cX0_dearTold 69 = .ok (.ireturn, 1) := dk_172 (dk_at dksX0_dearTold_2 22 rfl rfl)
abbrev cX0_replay : ByteArray := prog_1_method_40_code
def yX0_replay : MethodName := ⟨RX0, "replay", "(III)I"⟩
def dkwX0_replay_1 : List UInt8 := [153, 0, 13, 42, 27, 28, 29, 182, 1, 29, 167, 0, 5, 16, 153, 172]
abbrev dktX0_replay_1 : List UInt8 := dkwX0_replay_1 ++ []
def dkwX0_replay_0 : List UInt8 := [27, 28, 184, 1, 25, 153, 0, 12, 29, 3, 4, 184, 0, 3, 154, 0, 6, 16, 154, 172, 42, 182, 0, 205]
abbrev dktX0_replay_0 : List UInt8 := dkwX0_replay_0 ++ dktX0_replay_1
theorem dksX0_replay_0 : cX0_replay.data.toList.drop 0 = dktX0_replay_0 := by decide +kernel
theorem dksX0_replay_1 : cX0_replay.data.toList.drop 24 = dktX0_replay_1 := dk_seg dksX0_replay_0 24 rfl rfl
theorem dX0_replay_0 : decode cX0_replay 0 = .ok (.iload_n 1, 1) := dk_27 (dk_at dksX0_replay_0 0 rfl rfl)
theorem dX0_replay_1 : decode cX0_replay 1 = .ok (.iload_n 2, 1) := dk_28 (dk_at dksX0_replay_0 1 rfl rfl)
theorem dX0_replay_2 : decode cX0_replay 2 = .ok (.invokestatic 281, 3) := dk_184 1 25 (dk_at dksX0_replay_0 2 rfl rfl)
theorem dX0_replay_5 : decode cX0_replay 5 = .ok (.ifCond .eq 12, 3) := dk_153 0 12 (dk_at dksX0_replay_0 5 rfl rfl)
theorem dX0_replay_8 : decode cX0_replay 8 = .ok (.iload_n 3, 1) := dk_29 (dk_at dksX0_replay_0 8 rfl rfl)
theorem dX0_replay_9 : decode cX0_replay 9 = .ok (.iconst 0, 1) := dk_3 (dk_at dksX0_replay_0 9 rfl rfl)
theorem dX0_replay_10 : decode cX0_replay 10 = .ok (.iconst 1, 1) := dk_4 (dk_at dksX0_replay_0 10 rfl rfl)
theorem dX0_replay_11 : decode cX0_replay 11 = .ok (.invokestatic 3, 3) := dk_184 0 3 (dk_at dksX0_replay_0 11 rfl rfl)
theorem dX0_replay_14 : decode cX0_replay 14 = .ok (.ifCond .ne 6, 3) := dk_154 0 6 (dk_at dksX0_replay_0 14 rfl rfl)
theorem dX0_replay_17 : decode cX0_replay 17 = .ok (.bipush (-102), 2) := dk_16 154 (dk_at dksX0_replay_0 17 rfl rfl)
theorem dX0_replay_19 : decode cX0_replay 19 = .ok (.ireturn, 1) := dk_172 (dk_at dksX0_replay_0 19 rfl rfl)
theorem dX0_replay_20 : decode cX0_replay 20 = .ok (.aload_n 0, 1) := dk_42 (dk_at dksX0_replay_0 20 rfl rfl)
theorem dX0_replay_21 : decode cX0_replay 21 = .ok (.invokevirtual 205, 3) := dk_182 0 205 (dk_at dksX0_replay_0 21 rfl rfl)
theorem dX0_replay_24 : decode cX0_replay 24 = .ok (.ifCond .eq 13, 3) := dk_153 0 13 (dk_at dksX0_replay_1 0 rfl rfl)
theorem dX0_replay_27 : decode cX0_replay 27 = .ok (.aload_n 0, 1) := dk_42 (dk_at dksX0_replay_1 3 rfl rfl)
theorem dX0_replay_28 : decode cX0_replay 28 = .ok (.iload_n 1, 1) := dk_27 (dk_at dksX0_replay_1 4 rfl rfl)
theorem dX0_replay_29 : decode cX0_replay 29 = .ok (.iload_n 2, 1) := dk_28 (dk_at dksX0_replay_1 5 rfl rfl)
theorem dX0_replay_30 : decode cX0_replay 30 = .ok (.iload_n 3, 1) := dk_29 (dk_at dksX0_replay_1 6 rfl rfl)
theorem dX0_replay_31 : decode cX0_replay 31 = .ok (.invokevirtual 285, 3) := dk_182 1 29 (dk_at dksX0_replay_1 7 rfl rfl)
theorem dX0_replay_34 : decode cX0_replay 34 = .ok (.goto 5, 3) := dk_167 0 5 (dk_at dksX0_replay_1 10 rfl rfl)
theorem dX0_replay_37 : decode cX0_replay 37 = .ok (.bipush (-103), 2) := dk_16 153 (dk_at dksX0_replay_1 13 rfl rfl)
theorem dX0_replay_39 : decode cX0_replay 39 = .ok (.ireturn, 1) := dk_172 (dk_at dksX0_replay_1 15 rfl rfl)
abbrev cX0_isRatio : ByteArray := prog_1_method_3_code
def yX0_isRatio : MethodName := ⟨RX0, "isRatio", "(II)Z"⟩
def dkwX0_isRatio_1 : List UInt8 := [164, 0, 7, 4, 167, 0, 4, 3, 172]
abbrev dktX0_isRatio_1 : List UInt8 := dkwX0_isRatio_1 ++ []
def dkwX0_isRatio_0 : List UInt8 := [26, 4, 8, 184, 0, 3, 153, 0, 25, 27, 26, 4, 96, 8, 184, 0, 3, 153, 0, 14, 5, 26, 104, 27]
abbrev dktX0_isRatio_0 : List UInt8 := dkwX0_isRatio_0 ++ dktX0_isRatio_1
theorem dksX0_isRatio_0 : cX0_isRatio.data.toList.drop 0 = dktX0_isRatio_0 := by decide +kernel
theorem dksX0_isRatio_1 : cX0_isRatio.data.toList.drop 24 = dktX0_isRatio_1 := dk_seg dksX0_isRatio_0 24 rfl rfl
theorem dX0_isRatio_0 : decode cX0_isRatio 0 = .ok (.iload_n 0, 1) := dk_26 (dk_at dksX0_isRatio_0 0 rfl rfl)
theorem dX0_isRatio_1 : decode cX0_isRatio 1 = .ok (.iconst 1, 1) := dk_4 (dk_at dksX0_isRatio_0 1 rfl rfl)
theorem dX0_isRatio_2 : decode cX0_isRatio 2 = .ok (.iconst 5, 1) := dk_8 (dk_at dksX0_isRatio_0 2 rfl rfl)
theorem dX0_isRatio_3 : decode cX0_isRatio 3 = .ok (.invokestatic 3, 3) := dk_184 0 3 (dk_at dksX0_isRatio_0 3 rfl rfl)
theorem dX0_isRatio_6 : decode cX0_isRatio 6 = .ok (.ifCond .eq 25, 3) := dk_153 0 25 (dk_at dksX0_isRatio_0 6 rfl rfl)
theorem dX0_isRatio_9 : decode cX0_isRatio 9 = .ok (.iload_n 1, 1) := dk_27 (dk_at dksX0_isRatio_0 9 rfl rfl)
theorem dX0_isRatio_10 : decode cX0_isRatio 10 = .ok (.iload_n 0, 1) := dk_26 (dk_at dksX0_isRatio_0 10 rfl rfl)
theorem dX0_isRatio_11 : decode cX0_isRatio 11 = .ok (.iconst 1, 1) := dk_4 (dk_at dksX0_isRatio_0 11 rfl rfl)
theorem dX0_isRatio_12 : decode cX0_isRatio 12 = .ok (.iadd, 1) := dk_96 (dk_at dksX0_isRatio_0 12 rfl rfl)
theorem dX0_isRatio_13 : decode cX0_isRatio 13 = .ok (.iconst 5, 1) := dk_8 (dk_at dksX0_isRatio_0 13 rfl rfl)
theorem dX0_isRatio_14 : decode cX0_isRatio 14 = .ok (.invokestatic 3, 3) := dk_184 0 3 (dk_at dksX0_isRatio_0 14 rfl rfl)
theorem dX0_isRatio_17 : decode cX0_isRatio 17 = .ok (.ifCond .eq 14, 3) := dk_153 0 14 (dk_at dksX0_isRatio_0 17 rfl rfl)
theorem dX0_isRatio_20 : decode cX0_isRatio 20 = .ok (.iconst 2, 1) := dk_5 (dk_at dksX0_isRatio_0 20 rfl rfl)
theorem dX0_isRatio_21 : decode cX0_isRatio 21 = .ok (.iload_n 0, 1) := dk_26 (dk_at dksX0_isRatio_0 21 rfl rfl)
theorem dX0_isRatio_22 : decode cX0_isRatio 22 = .ok (.imul, 1) := dk_104 (dk_at dksX0_isRatio_0 22 rfl rfl)
theorem dX0_isRatio_23 : decode cX0_isRatio 23 = .ok (.iload_n 1, 1) := dk_27 (dk_at dksX0_isRatio_0 23 rfl rfl)
theorem dX0_isRatio_24 : decode cX0_isRatio 24 = .ok (.if_icmp .le 7, 3) := dk_164 0 7 (dk_at dksX0_isRatio_1 0 rfl rfl)
theorem dX0_isRatio_27 : decode cX0_isRatio 27 = .ok (.iconst 1, 1) := dk_4 (dk_at dksX0_isRatio_1 3 rfl rfl)
theorem dX0_isRatio_28 : decode cX0_isRatio 28 = .ok (.goto 4, 3) := dk_167 0 4 (dk_at dksX0_isRatio_1 4 rfl rfl)
theorem dX0_isRatio_31 : decode cX0_isRatio 31 = .ok (.iconst 0, 1) := dk_3 (dk_at dksX0_isRatio_1 7 rfl rfl)
theorem dX0_isRatio_32 : decode cX0_isRatio 32 = .ok (.ireturn, 1) := dk_172 (dk_at dksX0_isRatio_1 8 rfl rfl)
abbrev cX0_replayTold : ByteArray := prog_1_method_39_code
def yX0_replayTold : MethodName := ⟨RX0, "replayTold", "(III)I"⟩
def dkwX0_replayTold_4 : List UInt8 := [180, 1, 9, 167, 0, 11, 25, 4, 180, 0, 185, 184, 0, 90, 172]
abbrev dktX0_replayTold_4 : List UInt8 := dkwX0_replayTold_4 ++ []
def dkwX0_replayTold_3 : List UInt8 := [21, 5, 46, 16, 100, 100, 182, 0, 227, 87, 132, 5, 1, 167, 255, 195, 29, 154, 0, 11, 25, 4]
abbrev dktX0_replayTold_3 : List UInt8 := dkwX0_replayTold_3 ++ dktX0_replayTold_4
def dkwX0_replayTold_2 : List UInt8 := [42, 180, 0, 24, 21, 5, 46, 3, 184, 0, 103, 182, 0, 213, 87, 167, 0, 19, 25, 4, 42, 180, 0, 24]
abbrev dktX0_replayTold_2 : List UInt8 := dkwX0_replayTold_2 ++ dktX0_replayTold_3
def dkwX0_replayTold_1 : List UInt8 := [21, 5, 42, 180, 0, 144, 162, 0, 58, 42, 180, 0, 24, 21, 5, 46, 16, 100, 162, 0, 24, 25, 4, 3]
abbrev dktX0_replayTold_1 : List UInt8 := dkwX0_replayTold_1 ++ dktX0_replayTold_2
def dkwX0_replayTold_0 : List UInt8 := [187, 0, 13, 89, 183, 0, 15, 27, 28, 42, 180, 0, 16, 180, 1, 24, 182, 0, 140, 58, 4, 3, 54, 5]
abbrev dktX0_replayTold_0 : List UInt8 := dkwX0_replayTold_0 ++ dktX0_replayTold_1
theorem dksX0_replayTold_0 : cX0_replayTold.data.toList.drop 0 = dktX0_replayTold_0 := by decide +kernel
theorem dksX0_replayTold_1 : cX0_replayTold.data.toList.drop 24 = dktX0_replayTold_1 := dk_seg dksX0_replayTold_0 24 rfl rfl
theorem dksX0_replayTold_2 : cX0_replayTold.data.toList.drop 48 = dktX0_replayTold_2 := dk_seg dksX0_replayTold_1 24 rfl rfl
theorem dksX0_replayTold_3 : cX0_replayTold.data.toList.drop 72 = dktX0_replayTold_3 := dk_seg dksX0_replayTold_2 24 rfl rfl
theorem dksX0_replayTold_4 : cX0_replayTold.data.toList.drop 94 = dktX0_replayTold_4 := dk_seg dksX0_replayTold_3 22 rfl rfl
theorem dX0_replayTold_0 : decode cX0_replayTold 0 = .ok (.new 13, 3) := dk_187 0 13 (dk_at dksX0_replayTold_0 0 rfl rfl)
theorem dX0_replayTold_3 : decode cX0_replayTold 3 = .ok (.dup, 1) := dk_89 (dk_at dksX0_replayTold_0 3 rfl rfl)
theorem dX0_replayTold_4 : decode cX0_replayTold 4 = .ok (.invokespecial 15, 3) := dk_183 0 15 (dk_at dksX0_replayTold_0 4 rfl rfl)
theorem dX0_replayTold_7 : decode cX0_replayTold 7 = .ok (.iload_n 1, 1) := dk_27 (dk_at dksX0_replayTold_0 7 rfl rfl)
theorem dX0_replayTold_8 : decode cX0_replayTold 8 = .ok (.iload_n 2, 1) := dk_28 (dk_at dksX0_replayTold_0 8 rfl rfl)
theorem dX0_replayTold_9 : decode cX0_replayTold 9 = .ok (.aload_n 0, 1) := dk_42 (dk_at dksX0_replayTold_0 9 rfl rfl)
theorem dX0_replayTold_10 : decode cX0_replayTold 10 = .ok (.getfield 16, 3) := dk_180 0 16 (dk_at dksX0_replayTold_0 10 rfl rfl)
theorem dX0_replayTold_13 : decode cX0_replayTold 13 = .ok (.getfield 280, 3) := dk_180 1 24 (dk_at dksX0_replayTold_0 13 rfl rfl)
theorem dX0_replayTold_16 : decode cX0_replayTold 16 = .ok (.invokevirtual 140, 3) := dk_182 0 140 (dk_at dksX0_replayTold_0 16 rfl rfl)
theorem dX0_replayTold_19 : decode cX0_replayTold 19 = .ok (.astore 4, 2) := dk_58 4 (dk_at dksX0_replayTold_0 19 rfl rfl)
theorem dX0_replayTold_21 : decode cX0_replayTold 21 = .ok (.iconst 0, 1) := dk_3 (dk_at dksX0_replayTold_0 21 rfl rfl)
theorem dX0_replayTold_22 : decode cX0_replayTold 22 = .ok (.istore 5, 2) := dk_54 5 (dk_at dksX0_replayTold_0 22 rfl rfl)
theorem dX0_replayTold_24 : decode cX0_replayTold 24 = .ok (.iload 5, 2) := dk_21 5 (dk_at dksX0_replayTold_1 0 rfl rfl)
theorem dX0_replayTold_26 : decode cX0_replayTold 26 = .ok (.aload_n 0, 1) := dk_42 (dk_at dksX0_replayTold_1 2 rfl rfl)
theorem dX0_replayTold_27 : decode cX0_replayTold 27 = .ok (.getfield 144, 3) := dk_180 0 144 (dk_at dksX0_replayTold_1 3 rfl rfl)
theorem dX0_replayTold_30 : decode cX0_replayTold 30 = .ok (.if_icmp .ge 58, 3) := dk_162 0 58 (dk_at dksX0_replayTold_1 6 rfl rfl)
theorem dX0_replayTold_33 : decode cX0_replayTold 33 = .ok (.aload_n 0, 1) := dk_42 (dk_at dksX0_replayTold_1 9 rfl rfl)
theorem dX0_replayTold_34 : decode cX0_replayTold 34 = .ok (.getfield 24, 3) := dk_180 0 24 (dk_at dksX0_replayTold_1 10 rfl rfl)
theorem dX0_replayTold_37 : decode cX0_replayTold 37 = .ok (.iload 5, 2) := dk_21 5 (dk_at dksX0_replayTold_1 13 rfl rfl)
theorem dX0_replayTold_39 : decode cX0_replayTold 39 = .ok (.iaload, 1) := dk_46 (dk_at dksX0_replayTold_1 15 rfl rfl)
theorem dX0_replayTold_40 : decode cX0_replayTold 40 = .ok (.bipush 100, 2) := dk_16 100 (dk_at dksX0_replayTold_1 16 rfl rfl)
theorem dX0_replayTold_42 : decode cX0_replayTold 42 = .ok (.if_icmp .ge 24, 3) := dk_162 0 24 (dk_at dksX0_replayTold_1 18 rfl rfl)
theorem dX0_replayTold_45 : decode cX0_replayTold 45 = .ok (.aload 4, 2) := dk_25 4 (dk_at dksX0_replayTold_1 21 rfl rfl)
theorem dX0_replayTold_47 : decode cX0_replayTold 47 = .ok (.iconst 0, 1) := dk_3 (dk_at dksX0_replayTold_1 23 rfl rfl)
theorem dX0_replayTold_48 : decode cX0_replayTold 48 = .ok (.aload_n 0, 1) := dk_42 (dk_at dksX0_replayTold_2 0 rfl rfl)
theorem dX0_replayTold_49 : decode cX0_replayTold 49 = .ok (.getfield 24, 3) := dk_180 0 24 (dk_at dksX0_replayTold_2 1 rfl rfl)
theorem dX0_replayTold_52 : decode cX0_replayTold 52 = .ok (.iload 5, 2) := dk_21 5 (dk_at dksX0_replayTold_2 4 rfl rfl)
theorem dX0_replayTold_54 : decode cX0_replayTold 54 = .ok (.iaload, 1) := dk_46 (dk_at dksX0_replayTold_2 6 rfl rfl)
theorem dX0_replayTold_55 : decode cX0_replayTold 55 = .ok (.iconst 0, 1) := dk_3 (dk_at dksX0_replayTold_2 7 rfl rfl)
theorem dX0_replayTold_56 : decode cX0_replayTold 56 = .ok (.invokestatic 103, 3) := dk_184 0 103 (dk_at dksX0_replayTold_2 8 rfl rfl)
theorem dX0_replayTold_59 : decode cX0_replayTold 59 = .ok (.invokevirtual 213, 3) := dk_182 0 213 (dk_at dksX0_replayTold_2 11 rfl rfl)
theorem dX0_replayTold_62 : decode cX0_replayTold 62 = .ok (.pop, 1) := dk_87 (dk_at dksX0_replayTold_2 14 rfl rfl)
theorem dX0_replayTold_63 : decode cX0_replayTold 63 = .ok (.goto 19, 3) := dk_167 0 19 (dk_at dksX0_replayTold_2 15 rfl rfl)
theorem dX0_replayTold_66 : decode cX0_replayTold 66 = .ok (.aload 4, 2) := dk_25 4 (dk_at dksX0_replayTold_2 18 rfl rfl)
theorem dX0_replayTold_68 : decode cX0_replayTold 68 = .ok (.aload_n 0, 1) := dk_42 (dk_at dksX0_replayTold_2 20 rfl rfl)
theorem dX0_replayTold_69 : decode cX0_replayTold 69 = .ok (.getfield 24, 3) := dk_180 0 24 (dk_at dksX0_replayTold_2 21 rfl rfl)
theorem dX0_replayTold_72 : decode cX0_replayTold 72 = .ok (.iload 5, 2) := dk_21 5 (dk_at dksX0_replayTold_3 0 rfl rfl)
theorem dX0_replayTold_74 : decode cX0_replayTold 74 = .ok (.iaload, 1) := dk_46 (dk_at dksX0_replayTold_3 2 rfl rfl)
theorem dX0_replayTold_75 : decode cX0_replayTold 75 = .ok (.bipush 100, 2) := dk_16 100 (dk_at dksX0_replayTold_3 3 rfl rfl)
theorem dX0_replayTold_77 : decode cX0_replayTold 77 = .ok (.isub, 1) := dk_100 (dk_at dksX0_replayTold_3 5 rfl rfl)
theorem dX0_replayTold_78 : decode cX0_replayTold 78 = .ok (.invokevirtual 227, 3) := dk_182 0 227 (dk_at dksX0_replayTold_3 6 rfl rfl)
theorem dX0_replayTold_81 : decode cX0_replayTold 81 = .ok (.pop, 1) := dk_87 (dk_at dksX0_replayTold_3 9 rfl rfl)
theorem dX0_replayTold_82 : decode cX0_replayTold 82 = .ok (.iinc 5 1, 3) := dk_132 5 1 (dk_at dksX0_replayTold_3 10 rfl rfl)
theorem dX0_replayTold_85 : decode cX0_replayTold 85 = .ok (.goto (-61), 3) := dk_167 255 195 (dk_at dksX0_replayTold_3 13 rfl rfl)
theorem dX0_replayTold_88 : decode cX0_replayTold 88 = .ok (.iload_n 3, 1) := dk_29 (dk_at dksX0_replayTold_3 16 rfl rfl)
theorem dX0_replayTold_89 : decode cX0_replayTold 89 = .ok (.ifCond .ne 11, 3) := dk_154 0 11 (dk_at dksX0_replayTold_3 17 rfl rfl)
theorem dX0_replayTold_92 : decode cX0_replayTold 92 = .ok (.aload 4, 2) := dk_25 4 (dk_at dksX0_replayTold_3 20 rfl rfl)
theorem dX0_replayTold_94 : decode cX0_replayTold 94 = .ok (.getfield 265, 3) := dk_180 1 9 (dk_at dksX0_replayTold_4 0 rfl rfl)
theorem dX0_replayTold_97 : decode cX0_replayTold 97 = .ok (.goto 11, 3) := dk_167 0 11 (dk_at dksX0_replayTold_4 3 rfl rfl)
theorem dX0_replayTold_100 : decode cX0_replayTold 100 = .ok (.aload 4, 2) := dk_25 4 (dk_at dksX0_replayTold_4 6 rfl rfl)
theorem dX0_replayTold_102 : decode cX0_replayTold 102 = .ok (.getfield 185, 3) := dk_180 0 185 (dk_at dksX0_replayTold_4 8 rfl rfl)
theorem dX0_replayTold_105 : decode cX0_replayTold 105 = .ok (.invokestatic 90, 3) := dk_184 0 90 (dk_at dksX0_replayTold_4 11 rfl rfl)
theorem dX0_replayTold_108 : decode cX0_replayTold 108 = .ok (.ireturn, 1) := dk_172 (dk_at dksX0_replayTold_4 14 rfl rfl)
abbrev cX0_ahead : ByteArray := prog_1_method_42_code
def yX0_ahead : MethodName := ⟨RX0, "ahead", "()I"⟩
def dkwX0_ahead_0 : List UInt8 := [42, 182, 0, 205, 153, 0, 10, 42, 182, 1, 40, 167, 0, 5, 16, 153, 172]
abbrev dktX0_ahead_0 : List UInt8 := dkwX0_ahead_0 ++ []
theorem dksX0_ahead_0 : cX0_ahead.data.toList.drop 0 = dktX0_ahead_0 := by decide +kernel
theorem dX0_ahead_0 : decode cX0_ahead 0 = .ok (.aload_n 0, 1) := dk_42 (dk_at dksX0_ahead_0 0 rfl rfl)
theorem dX0_ahead_1 : decode cX0_ahead 1 = .ok (.invokevirtual 205, 3) := dk_182 0 205 (dk_at dksX0_ahead_0 1 rfl rfl)
theorem dX0_ahead_4 : decode cX0_ahead 4 = .ok (.ifCond .eq 10, 3) := dk_153 0 10 (dk_at dksX0_ahead_0 4 rfl rfl)
theorem dX0_ahead_7 : decode cX0_ahead 7 = .ok (.aload_n 0, 1) := dk_42 (dk_at dksX0_ahead_0 7 rfl rfl)
theorem dX0_ahead_8 : decode cX0_ahead 8 = .ok (.invokevirtual 296, 3) := dk_182 1 40 (dk_at dksX0_ahead_0 8 rfl rfl)
theorem dX0_ahead_11 : decode cX0_ahead 11 = .ok (.goto 5, 3) := dk_167 0 5 (dk_at dksX0_ahead_0 11 rfl rfl)
theorem dX0_ahead_14 : decode cX0_ahead 14 = .ok (.bipush (-103), 2) := dk_16 153 (dk_at dksX0_ahead_0 14 rfl rfl)
theorem dX0_ahead_16 : decode cX0_ahead 16 = .ok (.ireturn, 1) := dk_172 (dk_at dksX0_ahead_0 16 rfl rfl)
abbrev cX0_aheadTold : ByteArray := prog_1_method_41_code
def yX0_aheadTold : MethodName := ⟨RX0, "aheadTold", "()I"⟩
def dkwX0_aheadTold_2 : List UInt8 := [167, 255, 227, 2, 172]
abbrev dktX0_aheadTold_2 : List UInt8 := dkwX0_aheadTold_2 ++ []
def dkwX0_aheadTold_1 : List UInt8 := [43, 43, 180, 0, 185, 184, 1, 37, 180, 0, 72, 182, 0, 227, 153, 0, 5, 28, 172, 132, 2, 1]
abbrev dktX0_aheadTold_1 : List UInt8 := dkwX0_aheadTold_1 ++ dktX0_aheadTold_2
def dkwX0_aheadTold_0 : List UInt8 := [187, 0, 13, 89, 183, 0, 15, 42, 180, 0, 16, 182, 1, 33, 76, 4, 61, 43, 180, 0, 167, 158, 0, 28]
abbrev dktX0_aheadTold_0 : List UInt8 := dkwX0_aheadTold_0 ++ dktX0_aheadTold_1
theorem dksX0_aheadTold_0 : cX0_aheadTold.data.toList.drop 0 = dktX0_aheadTold_0 := by decide +kernel
theorem dksX0_aheadTold_1 : cX0_aheadTold.data.toList.drop 24 = dktX0_aheadTold_1 := dk_seg dksX0_aheadTold_0 24 rfl rfl
theorem dksX0_aheadTold_2 : cX0_aheadTold.data.toList.drop 46 = dktX0_aheadTold_2 := dk_seg dksX0_aheadTold_1 22 rfl rfl
theorem dX0_aheadTold_0 : decode cX0_aheadTold 0 = .ok (.new 13, 3) := dk_187 0 13 (dk_at dksX0_aheadTold_0 0 rfl rfl)
theorem dX0_aheadTold_3 : decode cX0_aheadTold 3 = .ok (.dup, 1) := dk_89 (dk_at dksX0_aheadTold_0 3 rfl rfl)
theorem dX0_aheadTold_4 : decode cX0_aheadTold 4 = .ok (.invokespecial 15, 3) := dk_183 0 15 (dk_at dksX0_aheadTold_0 4 rfl rfl)
theorem dX0_aheadTold_7 : decode cX0_aheadTold 7 = .ok (.aload_n 0, 1) := dk_42 (dk_at dksX0_aheadTold_0 7 rfl rfl)
theorem dX0_aheadTold_8 : decode cX0_aheadTold 8 = .ok (.getfield 16, 3) := dk_180 0 16 (dk_at dksX0_aheadTold_0 8 rfl rfl)
theorem dX0_aheadTold_11 : decode cX0_aheadTold 11 = .ok (.invokevirtual 289, 3) := dk_182 1 33 (dk_at dksX0_aheadTold_0 11 rfl rfl)
theorem dX0_aheadTold_14 : decode cX0_aheadTold 14 = .ok (.astore_n 1, 1) := dk_76 (dk_at dksX0_aheadTold_0 14 rfl rfl)
theorem dX0_aheadTold_15 : decode cX0_aheadTold 15 = .ok (.iconst 1, 1) := dk_4 (dk_at dksX0_aheadTold_0 15 rfl rfl)
theorem dX0_aheadTold_16 : decode cX0_aheadTold 16 = .ok (.istore_n 2, 1) := dk_61 (dk_at dksX0_aheadTold_0 16 rfl rfl)
theorem dX0_aheadTold_17 : decode cX0_aheadTold 17 = .ok (.aload_n 1, 1) := dk_43 (dk_at dksX0_aheadTold_0 17 rfl rfl)
theorem dX0_aheadTold_18 : decode cX0_aheadTold 18 = .ok (.getfield 167, 3) := dk_180 0 167 (dk_at dksX0_aheadTold_0 18 rfl rfl)
theorem dX0_aheadTold_21 : decode cX0_aheadTold 21 = .ok (.ifCond .le 28, 3) := dk_158 0 28 (dk_at dksX0_aheadTold_0 21 rfl rfl)
theorem dX0_aheadTold_24 : decode cX0_aheadTold 24 = .ok (.aload_n 1, 1) := dk_43 (dk_at dksX0_aheadTold_1 0 rfl rfl)
theorem dX0_aheadTold_25 : decode cX0_aheadTold 25 = .ok (.aload_n 1, 1) := dk_43 (dk_at dksX0_aheadTold_1 1 rfl rfl)
theorem dX0_aheadTold_26 : decode cX0_aheadTold 26 = .ok (.getfield 185, 3) := dk_180 0 185 (dk_at dksX0_aheadTold_1 2 rfl rfl)
theorem dX0_aheadTold_29 : decode cX0_aheadTold 29 = .ok (.invokestatic 293, 3) := dk_184 1 37 (dk_at dksX0_aheadTold_1 5 rfl rfl)
theorem dX0_aheadTold_32 : decode cX0_aheadTold 32 = .ok (.getfield 72, 3) := dk_180 0 72 (dk_at dksX0_aheadTold_1 8 rfl rfl)
theorem dX0_aheadTold_35 : decode cX0_aheadTold 35 = .ok (.invokevirtual 227, 3) := dk_182 0 227 (dk_at dksX0_aheadTold_1 11 rfl rfl)
theorem dX0_aheadTold_38 : decode cX0_aheadTold 38 = .ok (.ifCond .eq 5, 3) := dk_153 0 5 (dk_at dksX0_aheadTold_1 14 rfl rfl)
theorem dX0_aheadTold_41 : decode cX0_aheadTold 41 = .ok (.iload_n 2, 1) := dk_28 (dk_at dksX0_aheadTold_1 17 rfl rfl)
theorem dX0_aheadTold_42 : decode cX0_aheadTold 42 = .ok (.ireturn, 1) := dk_172 (dk_at dksX0_aheadTold_1 18 rfl rfl)
theorem dX0_aheadTold_43 : decode cX0_aheadTold 43 = .ok (.iinc 2 1, 3) := dk_132 2 1 (dk_at dksX0_aheadTold_1 19 rfl rfl)
theorem dX0_aheadTold_46 : decode cX0_aheadTold 46 = .ok (.goto (-29), 3) := dk_167 255 227 (dk_at dksX0_aheadTold_2 0 rfl rfl)
theorem dX0_aheadTold_49 : decode cX0_aheadTold 49 = .ok (.iconst (-1), 1) := dk_2 (dk_at dksX0_aheadTold_2 3 rfl rfl)
theorem dX0_aheadTold_50 : decode cX0_aheadTold 50 = .ok (.ireturn, 1) := dk_172 (dk_at dksX0_aheadTold_2 4 rfl rfl)
abbrev cX0_copyOf : ByteArray := prog_1_method_8_code
def yX0_copyOf : MethodName := ⟨RX0, "copyOf", "(LCreditShelf$Entry;)LCreditShelf$Entry;"⟩
def dkwX0_copyOf_1 : List UInt8 := [180, 0, 79, 184, 0, 107, 181, 0, 79, 43, 42, 180, 0, 87, 184, 0, 107, 181, 0, 87, 43, 176]
abbrev dktX0_copyOf_1 : List UInt8 := dkwX0_copyOf_1 ++ []
def dkwX0_copyOf_0 : List UInt8 := [42, 199, 0, 5, 1, 176, 42, 182, 0, 99, 42, 180, 0, 72, 42, 180, 0, 76, 184, 0, 103, 76, 43, 42]
abbrev dktX0_copyOf_0 : List UInt8 := dkwX0_copyOf_0 ++ dktX0_copyOf_1
theorem dksX0_copyOf_0 : cX0_copyOf.data.toList.drop 0 = dktX0_copyOf_0 := by decide +kernel
theorem dksX0_copyOf_1 : cX0_copyOf.data.toList.drop 24 = dktX0_copyOf_1 := dk_seg dksX0_copyOf_0 24 rfl rfl
theorem dX0_copyOf_0 : decode cX0_copyOf 0 = .ok (.aload_n 0, 1) := dk_42 (dk_at dksX0_copyOf_0 0 rfl rfl)
theorem dX0_copyOf_1 : decode cX0_copyOf 1 = .ok (.ifnonnull 5, 3) := dk_199 0 5 (dk_at dksX0_copyOf_0 1 rfl rfl)
theorem dX0_copyOf_4 : decode cX0_copyOf 4 = .ok (.aconst_null, 1) := dk_1 (dk_at dksX0_copyOf_0 4 rfl rfl)
theorem dX0_copyOf_5 : decode cX0_copyOf 5 = .ok (.areturn, 1) := dk_176 (dk_at dksX0_copyOf_0 5 rfl rfl)
theorem dX0_copyOf_6 : decode cX0_copyOf 6 = .ok (.aload_n 0, 1) := dk_42 (dk_at dksX0_copyOf_0 6 rfl rfl)
theorem dX0_copyOf_7 : decode cX0_copyOf 7 = .ok (.invokevirtual 99, 3) := dk_182 0 99 (dk_at dksX0_copyOf_0 7 rfl rfl)
theorem dX0_copyOf_10 : decode cX0_copyOf 10 = .ok (.aload_n 0, 1) := dk_42 (dk_at dksX0_copyOf_0 10 rfl rfl)
theorem dX0_copyOf_11 : decode cX0_copyOf 11 = .ok (.getfield 72, 3) := dk_180 0 72 (dk_at dksX0_copyOf_0 11 rfl rfl)
theorem dX0_copyOf_14 : decode cX0_copyOf 14 = .ok (.aload_n 0, 1) := dk_42 (dk_at dksX0_copyOf_0 14 rfl rfl)
theorem dX0_copyOf_15 : decode cX0_copyOf 15 = .ok (.getfield 76, 3) := dk_180 0 76 (dk_at dksX0_copyOf_0 15 rfl rfl)
theorem dX0_copyOf_18 : decode cX0_copyOf 18 = .ok (.invokestatic 103, 3) := dk_184 0 103 (dk_at dksX0_copyOf_0 18 rfl rfl)
theorem dX0_copyOf_21 : decode cX0_copyOf 21 = .ok (.astore_n 1, 1) := dk_76 (dk_at dksX0_copyOf_0 21 rfl rfl)
theorem dX0_copyOf_22 : decode cX0_copyOf 22 = .ok (.aload_n 1, 1) := dk_43 (dk_at dksX0_copyOf_0 22 rfl rfl)
theorem dX0_copyOf_23 : decode cX0_copyOf 23 = .ok (.aload_n 0, 1) := dk_42 (dk_at dksX0_copyOf_0 23 rfl rfl)
theorem dX0_copyOf_24 : decode cX0_copyOf 24 = .ok (.getfield 79, 3) := dk_180 0 79 (dk_at dksX0_copyOf_1 0 rfl rfl)
theorem dX0_copyOf_27 : decode cX0_copyOf 27 = .ok (.invokestatic 107, 3) := dk_184 0 107 (dk_at dksX0_copyOf_1 3 rfl rfl)
theorem dX0_copyOf_30 : decode cX0_copyOf 30 = .ok (.putfield 79, 3) := dk_181 0 79 (dk_at dksX0_copyOf_1 6 rfl rfl)
theorem dX0_copyOf_33 : decode cX0_copyOf 33 = .ok (.aload_n 1, 1) := dk_43 (dk_at dksX0_copyOf_1 9 rfl rfl)
theorem dX0_copyOf_34 : decode cX0_copyOf 34 = .ok (.aload_n 0, 1) := dk_42 (dk_at dksX0_copyOf_1 10 rfl rfl)
theorem dX0_copyOf_35 : decode cX0_copyOf 35 = .ok (.getfield 87, 3) := dk_180 0 87 (dk_at dksX0_copyOf_1 11 rfl rfl)
theorem dX0_copyOf_38 : decode cX0_copyOf 38 = .ok (.invokestatic 107, 3) := dk_184 0 107 (dk_at dksX0_copyOf_1 14 rfl rfl)
theorem dX0_copyOf_41 : decode cX0_copyOf 41 = .ok (.putfield 87, 3) := dk_181 0 87 (dk_at dksX0_copyOf_1 17 rfl rfl)
theorem dX0_copyOf_44 : decode cX0_copyOf 44 = .ok (.aload_n 1, 1) := dk_43 (dk_at dksX0_copyOf_1 20 rfl rfl)
theorem dX0_copyOf_45 : decode cX0_copyOf 45 = .ok (.areturn, 1) := dk_176 (dk_at dksX0_copyOf_1 21 rfl rfl)
abbrev cX0_see : ByteArray := prog_1_method_43_code
def yX0_see : MethodName := ⟨RX0, "see", "(IIZ)I"⟩
def dkwX0_see_3 : List UInt8 := [180, 0, 164, 29, 84, 42, 89, 180, 0, 164, 4, 96, 181, 0, 164, 42, 180, 0, 164, 172]
abbrev dktX0_see_3 : List UInt8 := dkwX0_see_3 ++ []
def dkwX0_see_2 : List UInt8 := [180, 0, 28, 42, 180, 0, 164, 27, 79, 42, 180, 0, 31, 42, 180, 0, 164, 28, 79, 42, 180, 0, 34, 42]
abbrev dktX0_see_2 : List UInt8 := dkwX0_see_2 ++ dktX0_see_3
def dkwX0_see_1 : List UInt8 := [182, 0, 205, 154, 0, 6, 16, 153, 172, 42, 180, 0, 164, 16, 6, 160, 0, 6, 16, 152, 172, 42]
abbrev dktX0_see_1 : List UInt8 := dkwX0_see_1 ++ dktX0_see_2
def dkwX0_see_0 : List UInt8 := [27, 3, 16, 99, 184, 0, 3, 153, 0, 12, 28, 3, 6, 184, 0, 3, 154, 0, 6, 16, 154, 172, 42]
abbrev dktX0_see_0 : List UInt8 := dkwX0_see_0 ++ dktX0_see_1
theorem dksX0_see_0 : cX0_see.data.toList.drop 0 = dktX0_see_0 := by decide +kernel
theorem dksX0_see_1 : cX0_see.data.toList.drop 23 = dktX0_see_1 := dk_seg dksX0_see_0 23 rfl rfl
theorem dksX0_see_2 : cX0_see.data.toList.drop 45 = dktX0_see_2 := dk_seg dksX0_see_1 22 rfl rfl
theorem dksX0_see_3 : cX0_see.data.toList.drop 69 = dktX0_see_3 := dk_seg dksX0_see_2 24 rfl rfl
theorem dX0_see_0 : decode cX0_see 0 = .ok (.iload_n 1, 1) := dk_27 (dk_at dksX0_see_0 0 rfl rfl)
theorem dX0_see_1 : decode cX0_see 1 = .ok (.iconst 0, 1) := dk_3 (dk_at dksX0_see_0 1 rfl rfl)
theorem dX0_see_2 : decode cX0_see 2 = .ok (.bipush 99, 2) := dk_16 99 (dk_at dksX0_see_0 2 rfl rfl)
theorem dX0_see_4 : decode cX0_see 4 = .ok (.invokestatic 3, 3) := dk_184 0 3 (dk_at dksX0_see_0 4 rfl rfl)
theorem dX0_see_7 : decode cX0_see 7 = .ok (.ifCond .eq 12, 3) := dk_153 0 12 (dk_at dksX0_see_0 7 rfl rfl)
theorem dX0_see_10 : decode cX0_see 10 = .ok (.iload_n 2, 1) := dk_28 (dk_at dksX0_see_0 10 rfl rfl)
theorem dX0_see_11 : decode cX0_see 11 = .ok (.iconst 0, 1) := dk_3 (dk_at dksX0_see_0 11 rfl rfl)
theorem dX0_see_12 : decode cX0_see 12 = .ok (.iconst 3, 1) := dk_6 (dk_at dksX0_see_0 12 rfl rfl)
theorem dX0_see_13 : decode cX0_see 13 = .ok (.invokestatic 3, 3) := dk_184 0 3 (dk_at dksX0_see_0 13 rfl rfl)
theorem dX0_see_16 : decode cX0_see 16 = .ok (.ifCond .ne 6, 3) := dk_154 0 6 (dk_at dksX0_see_0 16 rfl rfl)
theorem dX0_see_19 : decode cX0_see 19 = .ok (.bipush (-102), 2) := dk_16 154 (dk_at dksX0_see_0 19 rfl rfl)
theorem dX0_see_21 : decode cX0_see 21 = .ok (.ireturn, 1) := dk_172 (dk_at dksX0_see_0 21 rfl rfl)
theorem dX0_see_22 : decode cX0_see 22 = .ok (.aload_n 0, 1) := dk_42 (dk_at dksX0_see_0 22 rfl rfl)
theorem dX0_see_23 : decode cX0_see 23 = .ok (.invokevirtual 205, 3) := dk_182 0 205 (dk_at dksX0_see_1 0 rfl rfl)
theorem dX0_see_26 : decode cX0_see 26 = .ok (.ifCond .ne 6, 3) := dk_154 0 6 (dk_at dksX0_see_1 3 rfl rfl)
theorem dX0_see_29 : decode cX0_see 29 = .ok (.bipush (-103), 2) := dk_16 153 (dk_at dksX0_see_1 6 rfl rfl)
theorem dX0_see_31 : decode cX0_see 31 = .ok (.ireturn, 1) := dk_172 (dk_at dksX0_see_1 8 rfl rfl)
theorem dX0_see_32 : decode cX0_see 32 = .ok (.aload_n 0, 1) := dk_42 (dk_at dksX0_see_1 9 rfl rfl)
theorem dX0_see_33 : decode cX0_see 33 = .ok (.getfield 164, 3) := dk_180 0 164 (dk_at dksX0_see_1 10 rfl rfl)
theorem dX0_see_36 : decode cX0_see 36 = .ok (.bipush 6, 2) := dk_16 6 (dk_at dksX0_see_1 13 rfl rfl)
theorem dX0_see_38 : decode cX0_see 38 = .ok (.if_icmp .ne 6, 3) := dk_160 0 6 (dk_at dksX0_see_1 15 rfl rfl)
theorem dX0_see_41 : decode cX0_see 41 = .ok (.bipush (-104), 2) := dk_16 152 (dk_at dksX0_see_1 18 rfl rfl)
theorem dX0_see_43 : decode cX0_see 43 = .ok (.ireturn, 1) := dk_172 (dk_at dksX0_see_1 20 rfl rfl)
theorem dX0_see_44 : decode cX0_see 44 = .ok (.aload_n 0, 1) := dk_42 (dk_at dksX0_see_1 21 rfl rfl)
theorem dX0_see_45 : decode cX0_see 45 = .ok (.getfield 28, 3) := dk_180 0 28 (dk_at dksX0_see_2 0 rfl rfl)
theorem dX0_see_48 : decode cX0_see 48 = .ok (.aload_n 0, 1) := dk_42 (dk_at dksX0_see_2 3 rfl rfl)
theorem dX0_see_49 : decode cX0_see 49 = .ok (.getfield 164, 3) := dk_180 0 164 (dk_at dksX0_see_2 4 rfl rfl)
theorem dX0_see_52 : decode cX0_see 52 = .ok (.iload_n 1, 1) := dk_27 (dk_at dksX0_see_2 7 rfl rfl)
theorem dX0_see_53 : decode cX0_see 53 = .ok (.iastore, 1) := dk_79 (dk_at dksX0_see_2 8 rfl rfl)
theorem dX0_see_54 : decode cX0_see 54 = .ok (.aload_n 0, 1) := dk_42 (dk_at dksX0_see_2 9 rfl rfl)
theorem dX0_see_55 : decode cX0_see 55 = .ok (.getfield 31, 3) := dk_180 0 31 (dk_at dksX0_see_2 10 rfl rfl)
theorem dX0_see_58 : decode cX0_see 58 = .ok (.aload_n 0, 1) := dk_42 (dk_at dksX0_see_2 13 rfl rfl)
theorem dX0_see_59 : decode cX0_see 59 = .ok (.getfield 164, 3) := dk_180 0 164 (dk_at dksX0_see_2 14 rfl rfl)
theorem dX0_see_62 : decode cX0_see 62 = .ok (.iload_n 2, 1) := dk_28 (dk_at dksX0_see_2 17 rfl rfl)
theorem dX0_see_63 : decode cX0_see 63 = .ok (.iastore, 1) := dk_79 (dk_at dksX0_see_2 18 rfl rfl)
theorem dX0_see_64 : decode cX0_see 64 = .ok (.aload_n 0, 1) := dk_42 (dk_at dksX0_see_2 19 rfl rfl)
theorem dX0_see_65 : decode cX0_see 65 = .ok (.getfield 34, 3) := dk_180 0 34 (dk_at dksX0_see_2 20 rfl rfl)
theorem dX0_see_68 : decode cX0_see 68 = .ok (.aload_n 0, 1) := dk_42 (dk_at dksX0_see_2 23 rfl rfl)
theorem dX0_see_69 : decode cX0_see 69 = .ok (.getfield 164, 3) := dk_180 0 164 (dk_at dksX0_see_3 0 rfl rfl)
theorem dX0_see_72 : decode cX0_see 72 = .ok (.iload_n 3, 1) := dk_29 (dk_at dksX0_see_3 3 rfl rfl)
theorem dX0_see_73 : decode cX0_see 73 = .ok (.bastore, 1) := dk_84 (dk_at dksX0_see_3 4 rfl rfl)
theorem dX0_see_74 : decode cX0_see 74 = .ok (.aload_n 0, 1) := dk_42 (dk_at dksX0_see_3 5 rfl rfl)
theorem dX0_see_75 : decode cX0_see 75 = .ok (.dup, 1) := dk_89 (dk_at dksX0_see_3 6 rfl rfl)
theorem dX0_see_76 : decode cX0_see 76 = .ok (.getfield 164, 3) := dk_180 0 164 (dk_at dksX0_see_3 7 rfl rfl)
theorem dX0_see_79 : decode cX0_see 79 = .ok (.iconst 1, 1) := dk_4 (dk_at dksX0_see_3 10 rfl rfl)
theorem dX0_see_80 : decode cX0_see 80 = .ok (.iadd, 1) := dk_96 (dk_at dksX0_see_3 11 rfl rfl)
theorem dX0_see_81 : decode cX0_see 81 = .ok (.putfield 164, 3) := dk_181 0 164 (dk_at dksX0_see_3 12 rfl rfl)
theorem dX0_see_84 : decode cX0_see 84 = .ok (.aload_n 0, 1) := dk_42 (dk_at dksX0_see_3 15 rfl rfl)
theorem dX0_see_85 : decode cX0_see 85 = .ok (.getfield 164, 3) := dk_180 0 164 (dk_at dksX0_see_3 16 rfl rfl)
theorem dX0_see_88 : decode cX0_see 88 = .ok (.ireturn, 1) := dk_172 (dk_at dksX0_see_3 19 rfl rfl)
abbrev cX0_forget : ByteArray := prog_1_method_44_code
def yX0_forget : MethodName := ⟨RX0, "forget", "()I"⟩
def dkwX0_forget_0 : List UInt8 := [42, 180, 0, 164, 60, 42, 3, 181, 0, 164, 27, 172]
abbrev dktX0_forget_0 : List UInt8 := dkwX0_forget_0 ++ []
theorem dksX0_forget_0 : cX0_forget.data.toList.drop 0 = dktX0_forget_0 := by decide +kernel
theorem dX0_forget_0 : decode cX0_forget 0 = .ok (.aload_n 0, 1) := dk_42 (dk_at dksX0_forget_0 0 rfl rfl)
theorem dX0_forget_1 : decode cX0_forget 1 = .ok (.getfield 164, 3) := dk_180 0 164 (dk_at dksX0_forget_0 1 rfl rfl)
theorem dX0_forget_4 : decode cX0_forget 4 = .ok (.istore_n 1, 1) := dk_60 (dk_at dksX0_forget_0 4 rfl rfl)
theorem dX0_forget_5 : decode cX0_forget 5 = .ok (.aload_n 0, 1) := dk_42 (dk_at dksX0_forget_0 5 rfl rfl)
theorem dX0_forget_6 : decode cX0_forget 6 = .ok (.iconst 0, 1) := dk_3 (dk_at dksX0_forget_0 6 rfl rfl)
theorem dX0_forget_7 : decode cX0_forget 7 = .ok (.putfield 164, 3) := dk_181 0 164 (dk_at dksX0_forget_0 7 rfl rfl)
theorem dX0_forget_10 : decode cX0_forget 10 = .ok (.iload_n 1, 1) := dk_27 (dk_at dksX0_forget_0 10 rfl rfl)
theorem dX0_forget_11 : decode cX0_forget 11 = .ok (.ireturn, 1) := dk_172 (dk_at dksX0_forget_0 11 rfl rfl)
abbrev cX0_sorts : ByteArray := prog_1_method_48_code
def yX0_sorts : MethodName := ⟨RX0, "sorts", "(II)I"⟩
def dkwX0_sorts_1 : List UInt8 := [28, 154, 0, 11, 42, 27, 182, 1, 53, 167, 0, 8, 42, 27, 182, 1, 65, 172]
abbrev dktX0_sorts_1 : List UInt8 := dkwX0_sorts_1 ++ []
def dkwX0_sorts_0 : List UInt8 := [27, 3, 16, 99, 184, 0, 3, 153, 0, 12, 28, 3, 4, 184, 0, 3, 154, 0, 8, 16, 154, 167, 0, 20]
abbrev dktX0_sorts_0 : List UInt8 := dkwX0_sorts_0 ++ dktX0_sorts_1
theorem dksX0_sorts_0 : cX0_sorts.data.toList.drop 0 = dktX0_sorts_0 := by decide +kernel
theorem dksX0_sorts_1 : cX0_sorts.data.toList.drop 24 = dktX0_sorts_1 := dk_seg dksX0_sorts_0 24 rfl rfl
theorem dX0_sorts_0 : decode cX0_sorts 0 = .ok (.iload_n 1, 1) := dk_27 (dk_at dksX0_sorts_0 0 rfl rfl)
theorem dX0_sorts_1 : decode cX0_sorts 1 = .ok (.iconst 0, 1) := dk_3 (dk_at dksX0_sorts_0 1 rfl rfl)
theorem dX0_sorts_2 : decode cX0_sorts 2 = .ok (.bipush 99, 2) := dk_16 99 (dk_at dksX0_sorts_0 2 rfl rfl)
theorem dX0_sorts_4 : decode cX0_sorts 4 = .ok (.invokestatic 3, 3) := dk_184 0 3 (dk_at dksX0_sorts_0 4 rfl rfl)
theorem dX0_sorts_7 : decode cX0_sorts 7 = .ok (.ifCond .eq 12, 3) := dk_153 0 12 (dk_at dksX0_sorts_0 7 rfl rfl)
theorem dX0_sorts_10 : decode cX0_sorts 10 = .ok (.iload_n 2, 1) := dk_28 (dk_at dksX0_sorts_0 10 rfl rfl)
theorem dX0_sorts_11 : decode cX0_sorts 11 = .ok (.iconst 0, 1) := dk_3 (dk_at dksX0_sorts_0 11 rfl rfl)
theorem dX0_sorts_12 : decode cX0_sorts 12 = .ok (.iconst 1, 1) := dk_4 (dk_at dksX0_sorts_0 12 rfl rfl)
theorem dX0_sorts_13 : decode cX0_sorts 13 = .ok (.invokestatic 3, 3) := dk_184 0 3 (dk_at dksX0_sorts_0 13 rfl rfl)
theorem dX0_sorts_16 : decode cX0_sorts 16 = .ok (.ifCond .ne 8, 3) := dk_154 0 8 (dk_at dksX0_sorts_0 16 rfl rfl)
theorem dX0_sorts_19 : decode cX0_sorts 19 = .ok (.bipush (-102), 2) := dk_16 154 (dk_at dksX0_sorts_0 19 rfl rfl)
theorem dX0_sorts_21 : decode cX0_sorts 21 = .ok (.goto 20, 3) := dk_167 0 20 (dk_at dksX0_sorts_0 21 rfl rfl)
theorem dX0_sorts_24 : decode cX0_sorts 24 = .ok (.iload_n 2, 1) := dk_28 (dk_at dksX0_sorts_1 0 rfl rfl)
theorem dX0_sorts_25 : decode cX0_sorts 25 = .ok (.ifCond .ne 11, 3) := dk_154 0 11 (dk_at dksX0_sorts_1 1 rfl rfl)
theorem dX0_sorts_28 : decode cX0_sorts 28 = .ok (.aload_n 0, 1) := dk_42 (dk_at dksX0_sorts_1 4 rfl rfl)
theorem dX0_sorts_29 : decode cX0_sorts 29 = .ok (.iload_n 1, 1) := dk_27 (dk_at dksX0_sorts_1 5 rfl rfl)
theorem dX0_sorts_30 : decode cX0_sorts 30 = .ok (.invokevirtual 309, 3) := dk_182 1 53 (dk_at dksX0_sorts_1 6 rfl rfl)
theorem dX0_sorts_33 : decode cX0_sorts 33 = .ok (.goto 8, 3) := dk_167 0 8 (dk_at dksX0_sorts_1 9 rfl rfl)
theorem dX0_sorts_36 : decode cX0_sorts 36 = .ok (.aload_n 0, 1) := dk_42 (dk_at dksX0_sorts_1 12 rfl rfl)
theorem dX0_sorts_37 : decode cX0_sorts 37 = .ok (.iload_n 1, 1) := dk_27 (dk_at dksX0_sorts_1 13 rfl rfl)
theorem dX0_sorts_38 : decode cX0_sorts 38 = .ok (.invokevirtual 321, 3) := dk_182 1 65 (dk_at dksX0_sorts_1 14 rfl rfl)
theorem dX0_sorts_41 : decode cX0_sorts 41 = .ok (.ireturn, 1) := dk_172 (dk_at dksX0_sorts_1 17 rfl rfl)
abbrev cX0_sortsOf : ByteArray := prog_1_method_46_code
def yX0_sortsOf : MethodName := ⟨RX0, "sortsOf", "(I)I"⟩
def dkwX0_sortsOf_4 : List UInt8 := [28, 172]
abbrev dktX0_sortsOf_4 : List UInt8 := dkwX0_sortsOf_4 ++ []
def dkwX0_sortsOf_3 : List UInt8 := [167, 255, 201, 28, 21, 4, 153, 0, 9, 4, 29, 120, 167, 0, 4, 3, 128, 61, 132, 3, 1, 167, 255, 169]
abbrev dktX0_sortsOf_3 : List UInt8 := dkwX0_sortsOf_3 ++ dktX0_sortsOf_4
def dkwX0_sortsOf_2 : List UInt8 := [182, 1, 50, 42, 180, 0, 34, 21, 5, 51, 160, 0, 7, 4, 167, 0, 4, 3, 126, 54, 4, 132, 5, 1]
abbrev dktX0_sortsOf_2 : List UInt8 := dkwX0_sortsOf_2 ++ dktX0_sortsOf_3
def dkwX0_sortsOf_1 : List UInt8 := [21, 4, 42, 180, 0, 28, 21, 5, 46, 27, 160, 0, 25, 42, 29, 42, 180, 0, 31, 21, 5, 46]
abbrev dktX0_sortsOf_1 : List UInt8 := dkwX0_sortsOf_1 ++ dktX0_sortsOf_2
def dkwX0_sortsOf_0 : List UInt8 := [3, 61, 3, 62, 29, 8, 162, 0, 88, 4, 54, 4, 3, 54, 5, 21, 5, 42, 180, 0, 164, 162, 0, 52]
abbrev dktX0_sortsOf_0 : List UInt8 := dkwX0_sortsOf_0 ++ dktX0_sortsOf_1
theorem dksX0_sortsOf_0 : cX0_sortsOf.data.toList.drop 0 = dktX0_sortsOf_0 := by decide +kernel
theorem dksX0_sortsOf_1 : cX0_sortsOf.data.toList.drop 24 = dktX0_sortsOf_1 := dk_seg dksX0_sortsOf_0 24 rfl rfl
theorem dksX0_sortsOf_2 : cX0_sortsOf.data.toList.drop 46 = dktX0_sortsOf_2 := dk_seg dksX0_sortsOf_1 22 rfl rfl
theorem dksX0_sortsOf_3 : cX0_sortsOf.data.toList.drop 70 = dktX0_sortsOf_3 := dk_seg dksX0_sortsOf_2 24 rfl rfl
theorem dksX0_sortsOf_4 : cX0_sortsOf.data.toList.drop 94 = dktX0_sortsOf_4 := dk_seg dksX0_sortsOf_3 24 rfl rfl
theorem dX0_sortsOf_0 : decode cX0_sortsOf 0 = .ok (.iconst 0, 1) := dk_3 (dk_at dksX0_sortsOf_0 0 rfl rfl)
theorem dX0_sortsOf_1 : decode cX0_sortsOf 1 = .ok (.istore_n 2, 1) := dk_61 (dk_at dksX0_sortsOf_0 1 rfl rfl)
theorem dX0_sortsOf_2 : decode cX0_sortsOf 2 = .ok (.iconst 0, 1) := dk_3 (dk_at dksX0_sortsOf_0 2 rfl rfl)
theorem dX0_sortsOf_3 : decode cX0_sortsOf 3 = .ok (.istore_n 3, 1) := dk_62 (dk_at dksX0_sortsOf_0 3 rfl rfl)
theorem dX0_sortsOf_4 : decode cX0_sortsOf 4 = .ok (.iload_n 3, 1) := dk_29 (dk_at dksX0_sortsOf_0 4 rfl rfl)
theorem dX0_sortsOf_5 : decode cX0_sortsOf 5 = .ok (.iconst 5, 1) := dk_8 (dk_at dksX0_sortsOf_0 5 rfl rfl)
theorem dX0_sortsOf_6 : decode cX0_sortsOf 6 = .ok (.if_icmp .ge 88, 3) := dk_162 0 88 (dk_at dksX0_sortsOf_0 6 rfl rfl)
theorem dX0_sortsOf_9 : decode cX0_sortsOf 9 = .ok (.iconst 1, 1) := dk_4 (dk_at dksX0_sortsOf_0 9 rfl rfl)
theorem dX0_sortsOf_10 : decode cX0_sortsOf 10 = .ok (.istore 4, 2) := dk_54 4 (dk_at dksX0_sortsOf_0 10 rfl rfl)
theorem dX0_sortsOf_12 : decode cX0_sortsOf 12 = .ok (.iconst 0, 1) := dk_3 (dk_at dksX0_sortsOf_0 12 rfl rfl)
theorem dX0_sortsOf_13 : decode cX0_sortsOf 13 = .ok (.istore 5, 2) := dk_54 5 (dk_at dksX0_sortsOf_0 13 rfl rfl)
theorem dX0_sortsOf_15 : decode cX0_sortsOf 15 = .ok (.iload 5, 2) := dk_21 5 (dk_at dksX0_sortsOf_0 15 rfl rfl)
theorem dX0_sortsOf_17 : decode cX0_sortsOf 17 = .ok (.aload_n 0, 1) := dk_42 (dk_at dksX0_sortsOf_0 17 rfl rfl)
theorem dX0_sortsOf_18 : decode cX0_sortsOf 18 = .ok (.getfield 164, 3) := dk_180 0 164 (dk_at dksX0_sortsOf_0 18 rfl rfl)
theorem dX0_sortsOf_21 : decode cX0_sortsOf 21 = .ok (.if_icmp .ge 52, 3) := dk_162 0 52 (dk_at dksX0_sortsOf_0 21 rfl rfl)
theorem dX0_sortsOf_24 : decode cX0_sortsOf 24 = .ok (.iload 4, 2) := dk_21 4 (dk_at dksX0_sortsOf_1 0 rfl rfl)
theorem dX0_sortsOf_26 : decode cX0_sortsOf 26 = .ok (.aload_n 0, 1) := dk_42 (dk_at dksX0_sortsOf_1 2 rfl rfl)
theorem dX0_sortsOf_27 : decode cX0_sortsOf 27 = .ok (.getfield 28, 3) := dk_180 0 28 (dk_at dksX0_sortsOf_1 3 rfl rfl)
theorem dX0_sortsOf_30 : decode cX0_sortsOf 30 = .ok (.iload 5, 2) := dk_21 5 (dk_at dksX0_sortsOf_1 6 rfl rfl)
theorem dX0_sortsOf_32 : decode cX0_sortsOf 32 = .ok (.iaload, 1) := dk_46 (dk_at dksX0_sortsOf_1 8 rfl rfl)
theorem dX0_sortsOf_33 : decode cX0_sortsOf 33 = .ok (.iload_n 1, 1) := dk_27 (dk_at dksX0_sortsOf_1 9 rfl rfl)
theorem dX0_sortsOf_34 : decode cX0_sortsOf 34 = .ok (.if_icmp .ne 25, 3) := dk_160 0 25 (dk_at dksX0_sortsOf_1 10 rfl rfl)
theorem dX0_sortsOf_37 : decode cX0_sortsOf 37 = .ok (.aload_n 0, 1) := dk_42 (dk_at dksX0_sortsOf_1 13 rfl rfl)
theorem dX0_sortsOf_38 : decode cX0_sortsOf 38 = .ok (.iload_n 3, 1) := dk_29 (dk_at dksX0_sortsOf_1 14 rfl rfl)
theorem dX0_sortsOf_39 : decode cX0_sortsOf 39 = .ok (.aload_n 0, 1) := dk_42 (dk_at dksX0_sortsOf_1 15 rfl rfl)
theorem dX0_sortsOf_40 : decode cX0_sortsOf 40 = .ok (.getfield 31, 3) := dk_180 0 31 (dk_at dksX0_sortsOf_1 16 rfl rfl)
theorem dX0_sortsOf_43 : decode cX0_sortsOf 43 = .ok (.iload 5, 2) := dk_21 5 (dk_at dksX0_sortsOf_1 19 rfl rfl)
theorem dX0_sortsOf_45 : decode cX0_sortsOf 45 = .ok (.iaload, 1) := dk_46 (dk_at dksX0_sortsOf_1 21 rfl rfl)
theorem dX0_sortsOf_46 : decode cX0_sortsOf 46 = .ok (.invokevirtual 306, 3) := dk_182 1 50 (dk_at dksX0_sortsOf_2 0 rfl rfl)
theorem dX0_sortsOf_49 : decode cX0_sortsOf 49 = .ok (.aload_n 0, 1) := dk_42 (dk_at dksX0_sortsOf_2 3 rfl rfl)
theorem dX0_sortsOf_50 : decode cX0_sortsOf 50 = .ok (.getfield 34, 3) := dk_180 0 34 (dk_at dksX0_sortsOf_2 4 rfl rfl)
theorem dX0_sortsOf_53 : decode cX0_sortsOf 53 = .ok (.iload 5, 2) := dk_21 5 (dk_at dksX0_sortsOf_2 7 rfl rfl)
theorem dX0_sortsOf_55 : decode cX0_sortsOf 55 = .ok (.baload, 1) := dk_51 (dk_at dksX0_sortsOf_2 9 rfl rfl)
theorem dX0_sortsOf_56 : decode cX0_sortsOf 56 = .ok (.if_icmp .ne 7, 3) := dk_160 0 7 (dk_at dksX0_sortsOf_2 10 rfl rfl)
theorem dX0_sortsOf_59 : decode cX0_sortsOf 59 = .ok (.iconst 1, 1) := dk_4 (dk_at dksX0_sortsOf_2 13 rfl rfl)
theorem dX0_sortsOf_60 : decode cX0_sortsOf 60 = .ok (.goto 4, 3) := dk_167 0 4 (dk_at dksX0_sortsOf_2 14 rfl rfl)
theorem dX0_sortsOf_63 : decode cX0_sortsOf 63 = .ok (.iconst 0, 1) := dk_3 (dk_at dksX0_sortsOf_2 17 rfl rfl)
theorem dX0_sortsOf_64 : decode cX0_sortsOf 64 = .ok (.iand, 1) := dk_126 (dk_at dksX0_sortsOf_2 18 rfl rfl)
theorem dX0_sortsOf_65 : decode cX0_sortsOf 65 = .ok (.istore 4, 2) := dk_54 4 (dk_at dksX0_sortsOf_2 19 rfl rfl)
theorem dX0_sortsOf_67 : decode cX0_sortsOf 67 = .ok (.iinc 5 1, 3) := dk_132 5 1 (dk_at dksX0_sortsOf_2 21 rfl rfl)
theorem dX0_sortsOf_70 : decode cX0_sortsOf 70 = .ok (.goto (-55), 3) := dk_167 255 201 (dk_at dksX0_sortsOf_3 0 rfl rfl)
theorem dX0_sortsOf_73 : decode cX0_sortsOf 73 = .ok (.iload_n 2, 1) := dk_28 (dk_at dksX0_sortsOf_3 3 rfl rfl)
theorem dX0_sortsOf_74 : decode cX0_sortsOf 74 = .ok (.iload 4, 2) := dk_21 4 (dk_at dksX0_sortsOf_3 4 rfl rfl)
theorem dX0_sortsOf_76 : decode cX0_sortsOf 76 = .ok (.ifCond .eq 9, 3) := dk_153 0 9 (dk_at dksX0_sortsOf_3 6 rfl rfl)
theorem dX0_sortsOf_79 : decode cX0_sortsOf 79 = .ok (.iconst 1, 1) := dk_4 (dk_at dksX0_sortsOf_3 9 rfl rfl)
theorem dX0_sortsOf_80 : decode cX0_sortsOf 80 = .ok (.iload_n 3, 1) := dk_29 (dk_at dksX0_sortsOf_3 10 rfl rfl)
theorem dX0_sortsOf_81 : decode cX0_sortsOf 81 = .ok (.ishl, 1) := dk_120 (dk_at dksX0_sortsOf_3 11 rfl rfl)
theorem dX0_sortsOf_82 : decode cX0_sortsOf 82 = .ok (.goto 4, 3) := dk_167 0 4 (dk_at dksX0_sortsOf_3 12 rfl rfl)
theorem dX0_sortsOf_85 : decode cX0_sortsOf 85 = .ok (.iconst 0, 1) := dk_3 (dk_at dksX0_sortsOf_3 15 rfl rfl)
theorem dX0_sortsOf_86 : decode cX0_sortsOf 86 = .ok (.ior, 1) := dk_128 (dk_at dksX0_sortsOf_3 16 rfl rfl)
theorem dX0_sortsOf_87 : decode cX0_sortsOf 87 = .ok (.istore_n 2, 1) := dk_61 (dk_at dksX0_sortsOf_3 17 rfl rfl)
theorem dX0_sortsOf_88 : decode cX0_sortsOf 88 = .ok (.iinc 3 1, 3) := dk_132 3 1 (dk_at dksX0_sortsOf_3 18 rfl rfl)
theorem dX0_sortsOf_91 : decode cX0_sortsOf 91 = .ok (.goto (-87), 3) := dk_167 255 169 (dk_at dksX0_sortsOf_3 21 rfl rfl)
theorem dX0_sortsOf_94 : decode cX0_sortsOf 94 = .ok (.iload_n 2, 1) := dk_28 (dk_at dksX0_sortsOf_4 0 rfl rfl)
theorem dX0_sortsOf_95 : decode cX0_sortsOf 95 = .ok (.ireturn, 1) := dk_172 (dk_at dksX0_sortsOf_4 1 rfl rfl)
abbrev cX0_wouldDo : ByteArray := prog_1_method_45_code
def yX0_wouldDo : MethodName := ⟨RX0, "wouldDo", "(II)Z"⟩
def dkwX0_wouldDo_2 : List UInt8 := [182, 1, 47, 172]
abbrev dktX0_wouldDo_2 : List UInt8 := dkwX0_wouldDo_2 ++ []
def dkwX0_wouldDo_1 : List UInt8 := [184, 0, 103, 182, 1, 43, 87, 167, 255, 225, 42, 180, 0, 41, 27, 182, 0, 153, 192, 0, 69, 28]
abbrev dktX0_wouldDo_1 : List UInt8 := dkwX0_wouldDo_1 ++ dktX0_wouldDo_2
def dkwX0_wouldDo_0 : List UInt8 := [42, 180, 0, 41, 182, 0, 150, 8, 162, 0, 26, 42, 180, 0, 41, 42, 180, 0, 41, 182, 0, 150, 3, 3]
abbrev dktX0_wouldDo_0 : List UInt8 := dkwX0_wouldDo_0 ++ dktX0_wouldDo_1
theorem dksX0_wouldDo_0 : cX0_wouldDo.data.toList.drop 0 = dktX0_wouldDo_0 := by decide +kernel
theorem dksX0_wouldDo_1 : cX0_wouldDo.data.toList.drop 24 = dktX0_wouldDo_1 := dk_seg dksX0_wouldDo_0 24 rfl rfl
theorem dksX0_wouldDo_2 : cX0_wouldDo.data.toList.drop 46 = dktX0_wouldDo_2 := dk_seg dksX0_wouldDo_1 22 rfl rfl
theorem dX0_wouldDo_0 : decode cX0_wouldDo 0 = .ok (.aload_n 0, 1) := dk_42 (dk_at dksX0_wouldDo_0 0 rfl rfl)
theorem dX0_wouldDo_1 : decode cX0_wouldDo 1 = .ok (.getfield 41, 3) := dk_180 0 41 (dk_at dksX0_wouldDo_0 1 rfl rfl)
theorem dX0_wouldDo_4 : decode cX0_wouldDo 4 = .ok (.invokevirtual 150, 3) := dk_182 0 150 (dk_at dksX0_wouldDo_0 4 rfl rfl)
theorem dX0_wouldDo_7 : decode cX0_wouldDo 7 = .ok (.iconst 5, 1) := dk_8 (dk_at dksX0_wouldDo_0 7 rfl rfl)
theorem dX0_wouldDo_8 : decode cX0_wouldDo 8 = .ok (.if_icmp .ge 26, 3) := dk_162 0 26 (dk_at dksX0_wouldDo_0 8 rfl rfl)
theorem dX0_wouldDo_11 : decode cX0_wouldDo 11 = .ok (.aload_n 0, 1) := dk_42 (dk_at dksX0_wouldDo_0 11 rfl rfl)
theorem dX0_wouldDo_12 : decode cX0_wouldDo 12 = .ok (.getfield 41, 3) := dk_180 0 41 (dk_at dksX0_wouldDo_0 12 rfl rfl)
theorem dX0_wouldDo_15 : decode cX0_wouldDo 15 = .ok (.aload_n 0, 1) := dk_42 (dk_at dksX0_wouldDo_0 15 rfl rfl)
theorem dX0_wouldDo_16 : decode cX0_wouldDo 16 = .ok (.getfield 41, 3) := dk_180 0 41 (dk_at dksX0_wouldDo_0 16 rfl rfl)
theorem dX0_wouldDo_19 : decode cX0_wouldDo 19 = .ok (.invokevirtual 150, 3) := dk_182 0 150 (dk_at dksX0_wouldDo_0 19 rfl rfl)
theorem dX0_wouldDo_22 : decode cX0_wouldDo 22 = .ok (.iconst 0, 1) := dk_3 (dk_at dksX0_wouldDo_0 22 rfl rfl)
theorem dX0_wouldDo_23 : decode cX0_wouldDo 23 = .ok (.iconst 0, 1) := dk_3 (dk_at dksX0_wouldDo_0 23 rfl rfl)
theorem dX0_wouldDo_24 : decode cX0_wouldDo 24 = .ok (.invokestatic 103, 3) := dk_184 0 103 (dk_at dksX0_wouldDo_1 0 rfl rfl)
theorem dX0_wouldDo_27 : decode cX0_wouldDo 27 = .ok (.invokevirtual 299, 3) := dk_182 1 43 (dk_at dksX0_wouldDo_1 3 rfl rfl)
theorem dX0_wouldDo_30 : decode cX0_wouldDo 30 = .ok (.pop, 1) := dk_87 (dk_at dksX0_wouldDo_1 6 rfl rfl)
theorem dX0_wouldDo_31 : decode cX0_wouldDo 31 = .ok (.goto (-31), 3) := dk_167 255 225 (dk_at dksX0_wouldDo_1 7 rfl rfl)
theorem dX0_wouldDo_34 : decode cX0_wouldDo 34 = .ok (.aload_n 0, 1) := dk_42 (dk_at dksX0_wouldDo_1 10 rfl rfl)
theorem dX0_wouldDo_35 : decode cX0_wouldDo 35 = .ok (.getfield 41, 3) := dk_180 0 41 (dk_at dksX0_wouldDo_1 11 rfl rfl)
theorem dX0_wouldDo_38 : decode cX0_wouldDo 38 = .ok (.iload_n 1, 1) := dk_27 (dk_at dksX0_wouldDo_1 14 rfl rfl)
theorem dX0_wouldDo_39 : decode cX0_wouldDo 39 = .ok (.invokevirtual 153, 3) := dk_182 0 153 (dk_at dksX0_wouldDo_1 15 rfl rfl)
theorem dX0_wouldDo_42 : decode cX0_wouldDo 42 = .ok (.checkcast 69, 3) := dk_192 0 69 (dk_at dksX0_wouldDo_1 18 rfl rfl)
theorem dX0_wouldDo_45 : decode cX0_wouldDo 45 = .ok (.iload_n 2, 1) := dk_28 (dk_at dksX0_wouldDo_1 21 rfl rfl)
theorem dX0_wouldDo_46 : decode cX0_wouldDo 46 = .ok (.invokevirtual 303, 3) := dk_182 1 47 (dk_at dksX0_wouldDo_2 0 rfl rfl)
theorem dX0_wouldDo_49 : decode cX0_wouldDo 49 = .ok (.ireturn, 1) := dk_172 (dk_at dksX0_wouldDo_2 3 rfl rfl)
abbrev cX0_askOf : ByteArray := prog_1_method_47_code
def yX0_askOf : MethodName := ⟨RX0, "askOf", "(I)I"⟩
def dkwX0_askOf_5 : List UInt8 := [167, 255, 162, 29, 172]
abbrev dktX0_askOf_5 : List UInt8 := dkwX0_askOf_5 ++ []
def dkwX0_askOf_4 : List UInt8 := [21, 4, 162, 0, 8, 21, 5, 167, 0, 4, 29, 62, 21, 4, 21, 7, 184, 0, 239, 54, 4, 132, 5, 1]
abbrev dktX0_askOf_4 : List UInt8 := dkwX0_askOf_4 ++ dktX0_askOf_5
def dkwX0_askOf_3 : List UInt8 := [54, 6, 132, 7, 1, 167, 255, 217, 21, 6, 28, 184, 1, 60, 21, 6, 100, 184, 0, 93, 54, 7, 21, 7]
abbrev dktX0_askOf_3 : List UInt8 := dkwX0_askOf_3 ++ dktX0_askOf_4
def dkwX0_askOf_2 : List UInt8 := [184, 1, 57, 153, 0, 18, 42, 21, 7, 21, 5, 182, 1, 50, 153, 0, 7, 4, 167, 0, 4, 3, 96]
abbrev dktX0_askOf_2 : List UInt8 := dkwX0_askOf_2 ++ dktX0_askOf_3
def dkwX0_askOf_1 : List UInt8 := [21, 5, 7, 162, 0, 94, 3, 54, 6, 3, 54, 7, 21, 7, 8, 162, 0, 39, 21, 6, 28, 21, 7]
abbrev dktX0_askOf_1 : List UInt8 := dkwX0_askOf_1 ++ dktX0_askOf_2
def dkwX0_askOf_0 : List UInt8 := [42, 27, 182, 1, 53, 61, 2, 62, 28, 154, 0, 7, 3, 167, 0, 6, 19, 1, 56, 54, 4, 3, 54, 5]
abbrev dktX0_askOf_0 : List UInt8 := dkwX0_askOf_0 ++ dktX0_askOf_1
theorem dksX0_askOf_0 : cX0_askOf.data.toList.drop 0 = dktX0_askOf_0 := by decide +kernel
theorem dksX0_askOf_1 : cX0_askOf.data.toList.drop 24 = dktX0_askOf_1 := dk_seg dksX0_askOf_0 24 rfl rfl
theorem dksX0_askOf_2 : cX0_askOf.data.toList.drop 47 = dktX0_askOf_2 := dk_seg dksX0_askOf_1 23 rfl rfl
theorem dksX0_askOf_3 : cX0_askOf.data.toList.drop 70 = dktX0_askOf_3 := dk_seg dksX0_askOf_2 23 rfl rfl
theorem dksX0_askOf_4 : cX0_askOf.data.toList.drop 94 = dktX0_askOf_4 := dk_seg dksX0_askOf_3 24 rfl rfl
theorem dksX0_askOf_5 : cX0_askOf.data.toList.drop 118 = dktX0_askOf_5 := dk_seg dksX0_askOf_4 24 rfl rfl
theorem dX0_askOf_0 : decode cX0_askOf 0 = .ok (.aload_n 0, 1) := dk_42 (dk_at dksX0_askOf_0 0 rfl rfl)
theorem dX0_askOf_1 : decode cX0_askOf 1 = .ok (.iload_n 1, 1) := dk_27 (dk_at dksX0_askOf_0 1 rfl rfl)
theorem dX0_askOf_2 : decode cX0_askOf 2 = .ok (.invokevirtual 309, 3) := dk_182 1 53 (dk_at dksX0_askOf_0 2 rfl rfl)
theorem dX0_askOf_5 : decode cX0_askOf 5 = .ok (.istore_n 2, 1) := dk_61 (dk_at dksX0_askOf_0 5 rfl rfl)
theorem dX0_askOf_6 : decode cX0_askOf 6 = .ok (.iconst (-1), 1) := dk_2 (dk_at dksX0_askOf_0 6 rfl rfl)
theorem dX0_askOf_7 : decode cX0_askOf 7 = .ok (.istore_n 3, 1) := dk_62 (dk_at dksX0_askOf_0 7 rfl rfl)
theorem dX0_askOf_8 : decode cX0_askOf 8 = .ok (.iload_n 2, 1) := dk_28 (dk_at dksX0_askOf_0 8 rfl rfl)
theorem dX0_askOf_9 : decode cX0_askOf 9 = .ok (.ifCond .ne 7, 3) := dk_154 0 7 (dk_at dksX0_askOf_0 9 rfl rfl)
theorem dX0_askOf_12 : decode cX0_askOf 12 = .ok (.iconst 0, 1) := dk_3 (dk_at dksX0_askOf_0 12 rfl rfl)
theorem dX0_askOf_13 : decode cX0_askOf 13 = .ok (.goto 6, 3) := dk_167 0 6 (dk_at dksX0_askOf_0 13 rfl rfl)
theorem dX0_askOf_16 : decode cX0_askOf 16 = .ok (.ldc_w 312, 3) := dk_19 1 56 (dk_at dksX0_askOf_0 16 rfl rfl)
theorem dX0_askOf_19 : decode cX0_askOf 19 = .ok (.istore 4, 2) := dk_54 4 (dk_at dksX0_askOf_0 19 rfl rfl)
theorem dX0_askOf_21 : decode cX0_askOf 21 = .ok (.iconst 0, 1) := dk_3 (dk_at dksX0_askOf_0 21 rfl rfl)
theorem dX0_askOf_22 : decode cX0_askOf 22 = .ok (.istore 5, 2) := dk_54 5 (dk_at dksX0_askOf_0 22 rfl rfl)
theorem dX0_askOf_24 : decode cX0_askOf 24 = .ok (.iload 5, 2) := dk_21 5 (dk_at dksX0_askOf_1 0 rfl rfl)
theorem dX0_askOf_26 : decode cX0_askOf 26 = .ok (.iconst 4, 1) := dk_7 (dk_at dksX0_askOf_1 2 rfl rfl)
theorem dX0_askOf_27 : decode cX0_askOf 27 = .ok (.if_icmp .ge 94, 3) := dk_162 0 94 (dk_at dksX0_askOf_1 3 rfl rfl)
theorem dX0_askOf_30 : decode cX0_askOf 30 = .ok (.iconst 0, 1) := dk_3 (dk_at dksX0_askOf_1 6 rfl rfl)
theorem dX0_askOf_31 : decode cX0_askOf 31 = .ok (.istore 6, 2) := dk_54 6 (dk_at dksX0_askOf_1 7 rfl rfl)
theorem dX0_askOf_33 : decode cX0_askOf 33 = .ok (.iconst 0, 1) := dk_3 (dk_at dksX0_askOf_1 9 rfl rfl)
theorem dX0_askOf_34 : decode cX0_askOf 34 = .ok (.istore 7, 2) := dk_54 7 (dk_at dksX0_askOf_1 10 rfl rfl)
theorem dX0_askOf_36 : decode cX0_askOf 36 = .ok (.iload 7, 2) := dk_21 7 (dk_at dksX0_askOf_1 12 rfl rfl)
theorem dX0_askOf_38 : decode cX0_askOf 38 = .ok (.iconst 5, 1) := dk_8 (dk_at dksX0_askOf_1 14 rfl rfl)
theorem dX0_askOf_39 : decode cX0_askOf 39 = .ok (.if_icmp .ge 39, 3) := dk_162 0 39 (dk_at dksX0_askOf_1 15 rfl rfl)
theorem dX0_askOf_42 : decode cX0_askOf 42 = .ok (.iload 6, 2) := dk_21 6 (dk_at dksX0_askOf_1 18 rfl rfl)
theorem dX0_askOf_44 : decode cX0_askOf 44 = .ok (.iload_n 2, 1) := dk_28 (dk_at dksX0_askOf_1 20 rfl rfl)
theorem dX0_askOf_45 : decode cX0_askOf 45 = .ok (.iload 7, 2) := dk_21 7 (dk_at dksX0_askOf_1 21 rfl rfl)
theorem dX0_askOf_47 : decode cX0_askOf 47 = .ok (.invokestatic 313, 3) := dk_184 1 57 (dk_at dksX0_askOf_2 0 rfl rfl)
theorem dX0_askOf_50 : decode cX0_askOf 50 = .ok (.ifCond .eq 18, 3) := dk_153 0 18 (dk_at dksX0_askOf_2 3 rfl rfl)
theorem dX0_askOf_53 : decode cX0_askOf 53 = .ok (.aload_n 0, 1) := dk_42 (dk_at dksX0_askOf_2 6 rfl rfl)
theorem dX0_askOf_54 : decode cX0_askOf 54 = .ok (.iload 7, 2) := dk_21 7 (dk_at dksX0_askOf_2 7 rfl rfl)
theorem dX0_askOf_56 : decode cX0_askOf 56 = .ok (.iload 5, 2) := dk_21 5 (dk_at dksX0_askOf_2 9 rfl rfl)
theorem dX0_askOf_58 : decode cX0_askOf 58 = .ok (.invokevirtual 306, 3) := dk_182 1 50 (dk_at dksX0_askOf_2 11 rfl rfl)
theorem dX0_askOf_61 : decode cX0_askOf 61 = .ok (.ifCond .eq 7, 3) := dk_153 0 7 (dk_at dksX0_askOf_2 14 rfl rfl)
theorem dX0_askOf_64 : decode cX0_askOf 64 = .ok (.iconst 1, 1) := dk_4 (dk_at dksX0_askOf_2 17 rfl rfl)
theorem dX0_askOf_65 : decode cX0_askOf 65 = .ok (.goto 4, 3) := dk_167 0 4 (dk_at dksX0_askOf_2 18 rfl rfl)
theorem dX0_askOf_68 : decode cX0_askOf 68 = .ok (.iconst 0, 1) := dk_3 (dk_at dksX0_askOf_2 21 rfl rfl)
theorem dX0_askOf_69 : decode cX0_askOf 69 = .ok (.iadd, 1) := dk_96 (dk_at dksX0_askOf_2 22 rfl rfl)
theorem dX0_askOf_70 : decode cX0_askOf 70 = .ok (.istore 6, 2) := dk_54 6 (dk_at dksX0_askOf_3 0 rfl rfl)
theorem dX0_askOf_72 : decode cX0_askOf 72 = .ok (.iinc 7 1, 3) := dk_132 7 1 (dk_at dksX0_askOf_3 2 rfl rfl)
theorem dX0_askOf_75 : decode cX0_askOf 75 = .ok (.goto (-39), 3) := dk_167 255 217 (dk_at dksX0_askOf_3 5 rfl rfl)
theorem dX0_askOf_78 : decode cX0_askOf 78 = .ok (.iload 6, 2) := dk_21 6 (dk_at dksX0_askOf_3 8 rfl rfl)
theorem dX0_askOf_80 : decode cX0_askOf 80 = .ok (.iload_n 2, 1) := dk_28 (dk_at dksX0_askOf_3 10 rfl rfl)
theorem dX0_askOf_81 : decode cX0_askOf 81 = .ok (.invokestatic 316, 3) := dk_184 1 60 (dk_at dksX0_askOf_3 11 rfl rfl)
theorem dX0_askOf_84 : decode cX0_askOf 84 = .ok (.iload 6, 2) := dk_21 6 (dk_at dksX0_askOf_3 14 rfl rfl)
theorem dX0_askOf_86 : decode cX0_askOf 86 = .ok (.isub, 1) := dk_100 (dk_at dksX0_askOf_3 16 rfl rfl)
theorem dX0_askOf_87 : decode cX0_askOf 87 = .ok (.invokestatic 93, 3) := dk_184 0 93 (dk_at dksX0_askOf_3 17 rfl rfl)
theorem dX0_askOf_90 : decode cX0_askOf 90 = .ok (.istore 7, 2) := dk_54 7 (dk_at dksX0_askOf_3 20 rfl rfl)
theorem dX0_askOf_92 : decode cX0_askOf 92 = .ok (.iload 7, 2) := dk_21 7 (dk_at dksX0_askOf_3 22 rfl rfl)
theorem dX0_askOf_94 : decode cX0_askOf 94 = .ok (.iload 4, 2) := dk_21 4 (dk_at dksX0_askOf_4 0 rfl rfl)
theorem dX0_askOf_96 : decode cX0_askOf 96 = .ok (.if_icmp .ge 8, 3) := dk_162 0 8 (dk_at dksX0_askOf_4 2 rfl rfl)
theorem dX0_askOf_99 : decode cX0_askOf 99 = .ok (.iload 5, 2) := dk_21 5 (dk_at dksX0_askOf_4 5 rfl rfl)
theorem dX0_askOf_101 : decode cX0_askOf 101 = .ok (.goto 4, 3) := dk_167 0 4 (dk_at dksX0_askOf_4 7 rfl rfl)
theorem dX0_askOf_104 : decode cX0_askOf 104 = .ok (.iload_n 3, 1) := dk_29 (dk_at dksX0_askOf_4 10 rfl rfl)
theorem dX0_askOf_105 : decode cX0_askOf 105 = .ok (.istore_n 3, 1) := dk_62 (dk_at dksX0_askOf_4 11 rfl rfl)
theorem dX0_askOf_106 : decode cX0_askOf 106 = .ok (.iload 4, 2) := dk_21 4 (dk_at dksX0_askOf_4 12 rfl rfl)
theorem dX0_askOf_108 : decode cX0_askOf 108 = .ok (.iload 7, 2) := dk_21 7 (dk_at dksX0_askOf_4 14 rfl rfl)
theorem dX0_askOf_110 : decode cX0_askOf 110 = .ok (.invokestatic 239, 3) := dk_184 0 239 (dk_at dksX0_askOf_4 16 rfl rfl)
theorem dX0_askOf_113 : decode cX0_askOf 113 = .ok (.istore 4, 2) := dk_54 4 (dk_at dksX0_askOf_4 19 rfl rfl)
theorem dX0_askOf_115 : decode cX0_askOf 115 = .ok (.iinc 5 1, 3) := dk_132 5 1 (dk_at dksX0_askOf_4 21 rfl rfl)
theorem dX0_askOf_118 : decode cX0_askOf 118 = .ok (.goto (-94), 3) := dk_167 255 162 (dk_at dksX0_askOf_5 0 rfl rfl)
theorem dX0_askOf_121 : decode cX0_askOf 121 = .ok (.iload_n 3, 1) := dk_29 (dk_at dksX0_askOf_5 3 rfl rfl)
theorem dX0_askOf_122 : decode cX0_askOf 122 = .ok (.ireturn, 1) := dk_172 (dk_at dksX0_askOf_5 4 rfl rfl)
abbrev cX0_isIn : ByteArray := prog_1_method_2_code
def yX0_isIn : MethodName := ⟨RX0, "isIn", "(II)Z"⟩
def dkwX0_isIn_0 : List UInt8 := [26, 27, 122, 4, 126, 4, 160, 0, 7, 4, 167, 0, 4, 3, 172]
abbrev dktX0_isIn_0 : List UInt8 := dkwX0_isIn_0 ++ []
theorem dksX0_isIn_0 : cX0_isIn.data.toList.drop 0 = dktX0_isIn_0 := by decide +kernel
theorem dX0_isIn_0 : decode cX0_isIn 0 = .ok (.iload_n 0, 1) := dk_26 (dk_at dksX0_isIn_0 0 rfl rfl)
theorem dX0_isIn_1 : decode cX0_isIn 1 = .ok (.iload_n 1, 1) := dk_27 (dk_at dksX0_isIn_0 1 rfl rfl)
theorem dX0_isIn_2 : decode cX0_isIn 2 = .ok (.ishr, 1) := dk_122 (dk_at dksX0_isIn_0 2 rfl rfl)
theorem dX0_isIn_3 : decode cX0_isIn 3 = .ok (.iconst 1, 1) := dk_4 (dk_at dksX0_isIn_0 3 rfl rfl)
theorem dX0_isIn_4 : decode cX0_isIn 4 = .ok (.iand, 1) := dk_126 (dk_at dksX0_isIn_0 4 rfl rfl)
theorem dX0_isIn_5 : decode cX0_isIn 5 = .ok (.iconst 1, 1) := dk_4 (dk_at dksX0_isIn_0 5 rfl rfl)
theorem dX0_isIn_6 : decode cX0_isIn 6 = .ok (.if_icmp .ne 7, 3) := dk_160 0 7 (dk_at dksX0_isIn_0 6 rfl rfl)
theorem dX0_isIn_9 : decode cX0_isIn 9 = .ok (.iconst 1, 1) := dk_4 (dk_at dksX0_isIn_0 9 rfl rfl)
theorem dX0_isIn_10 : decode cX0_isIn 10 = .ok (.goto 4, 3) := dk_167 0 4 (dk_at dksX0_isIn_0 10 rfl rfl)
theorem dX0_isIn_13 : decode cX0_isIn 13 = .ok (.iconst 0, 1) := dk_3 (dk_at dksX0_isIn_0 13 rfl rfl)
theorem dX0_isIn_14 : decode cX0_isIn 14 = .ok (.ireturn, 1) := dk_172 (dk_at dksX0_isIn_0 14 rfl rfl)
abbrev cX0_drawn : ByteArray := prog_1_method_51_code
def yX0_drawn : MethodName := ⟨RX0, "drawn", "(III)I"⟩
def dkwX0_drawn_1 : List UInt8 := [16, 154, 172, 42, 182, 0, 205, 153, 0, 13, 42, 27, 28, 29, 182, 1, 83, 167, 0, 5, 16, 153, 172]
abbrev dktX0_drawn_1 : List UInt8 := dkwX0_drawn_1 ++ []
def dkwX0_drawn_0 : List UInt8 := [27, 4, 16, 60, 184, 0, 3, 153, 0, 16, 28, 155, 0, 12, 29, 3, 5, 184, 0, 3, 154, 0, 6]
abbrev dktX0_drawn_0 : List UInt8 := dkwX0_drawn_0 ++ dktX0_drawn_1
theorem dksX0_drawn_0 : cX0_drawn.data.toList.drop 0 = dktX0_drawn_0 := by decide +kernel
theorem dksX0_drawn_1 : cX0_drawn.data.toList.drop 23 = dktX0_drawn_1 := dk_seg dksX0_drawn_0 23 rfl rfl
theorem dX0_drawn_0 : decode cX0_drawn 0 = .ok (.iload_n 1, 1) := dk_27 (dk_at dksX0_drawn_0 0 rfl rfl)
theorem dX0_drawn_1 : decode cX0_drawn 1 = .ok (.iconst 1, 1) := dk_4 (dk_at dksX0_drawn_0 1 rfl rfl)
theorem dX0_drawn_2 : decode cX0_drawn 2 = .ok (.bipush 60, 2) := dk_16 60 (dk_at dksX0_drawn_0 2 rfl rfl)
theorem dX0_drawn_4 : decode cX0_drawn 4 = .ok (.invokestatic 3, 3) := dk_184 0 3 (dk_at dksX0_drawn_0 4 rfl rfl)
theorem dX0_drawn_7 : decode cX0_drawn 7 = .ok (.ifCond .eq 16, 3) := dk_153 0 16 (dk_at dksX0_drawn_0 7 rfl rfl)
theorem dX0_drawn_10 : decode cX0_drawn 10 = .ok (.iload_n 2, 1) := dk_28 (dk_at dksX0_drawn_0 10 rfl rfl)
theorem dX0_drawn_11 : decode cX0_drawn 11 = .ok (.ifCond .lt 12, 3) := dk_155 0 12 (dk_at dksX0_drawn_0 11 rfl rfl)
theorem dX0_drawn_14 : decode cX0_drawn 14 = .ok (.iload_n 3, 1) := dk_29 (dk_at dksX0_drawn_0 14 rfl rfl)
theorem dX0_drawn_15 : decode cX0_drawn 15 = .ok (.iconst 0, 1) := dk_3 (dk_at dksX0_drawn_0 15 rfl rfl)
theorem dX0_drawn_16 : decode cX0_drawn 16 = .ok (.iconst 2, 1) := dk_5 (dk_at dksX0_drawn_0 16 rfl rfl)
theorem dX0_drawn_17 : decode cX0_drawn 17 = .ok (.invokestatic 3, 3) := dk_184 0 3 (dk_at dksX0_drawn_0 17 rfl rfl)
theorem dX0_drawn_20 : decode cX0_drawn 20 = .ok (.ifCond .ne 6, 3) := dk_154 0 6 (dk_at dksX0_drawn_0 20 rfl rfl)
theorem dX0_drawn_23 : decode cX0_drawn 23 = .ok (.bipush (-102), 2) := dk_16 154 (dk_at dksX0_drawn_1 0 rfl rfl)
theorem dX0_drawn_25 : decode cX0_drawn 25 = .ok (.ireturn, 1) := dk_172 (dk_at dksX0_drawn_1 2 rfl rfl)
theorem dX0_drawn_26 : decode cX0_drawn 26 = .ok (.aload_n 0, 1) := dk_42 (dk_at dksX0_drawn_1 3 rfl rfl)
theorem dX0_drawn_27 : decode cX0_drawn 27 = .ok (.invokevirtual 205, 3) := dk_182 0 205 (dk_at dksX0_drawn_1 4 rfl rfl)
theorem dX0_drawn_30 : decode cX0_drawn 30 = .ok (.ifCond .eq 13, 3) := dk_153 0 13 (dk_at dksX0_drawn_1 7 rfl rfl)
theorem dX0_drawn_33 : decode cX0_drawn 33 = .ok (.aload_n 0, 1) := dk_42 (dk_at dksX0_drawn_1 10 rfl rfl)
theorem dX0_drawn_34 : decode cX0_drawn 34 = .ok (.iload_n 1, 1) := dk_27 (dk_at dksX0_drawn_1 11 rfl rfl)
theorem dX0_drawn_35 : decode cX0_drawn 35 = .ok (.iload_n 2, 1) := dk_28 (dk_at dksX0_drawn_1 12 rfl rfl)
theorem dX0_drawn_36 : decode cX0_drawn 36 = .ok (.iload_n 3, 1) := dk_29 (dk_at dksX0_drawn_1 13 rfl rfl)
theorem dX0_drawn_37 : decode cX0_drawn 37 = .ok (.invokevirtual 339, 3) := dk_182 1 83 (dk_at dksX0_drawn_1 14 rfl rfl)
theorem dX0_drawn_40 : decode cX0_drawn 40 = .ok (.goto 5, 3) := dk_167 0 5 (dk_at dksX0_drawn_1 17 rfl rfl)
theorem dX0_drawn_43 : decode cX0_drawn 43 = .ok (.bipush (-103), 2) := dk_16 153 (dk_at dksX0_drawn_1 20 rfl rfl)
theorem dX0_drawn_45 : decode cX0_drawn 45 = .ok (.ireturn, 1) := dk_172 (dk_at dksX0_drawn_1 22 rfl rfl)
abbrev cX0_drawnTold : ByteArray := prog_1_method_50_code
def yX0_drawnTold : MethodName := ⟨RX0, "drawnTold", "(III)I"⟩
def dkwX0_drawnTold_5 : List UInt8 := [180, 0, 185, 184, 0, 90, 167, 0, 8, 42, 180, 1, 70, 136, 172]
abbrev dktX0_drawnTold_5 : List UInt8 := dkwX0_drawnTold_5 ++ []
def dkwX0_drawnTold_4 : List UInt8 := [29, 154, 0, 14, 25, 4, 180, 1, 9, 21, 5, 100, 167, 0, 24, 29, 4, 160, 0, 14, 25, 4]
abbrev dktX0_drawnTold_4 : List UInt8 := dkwX0_drawnTold_4 ++ dktX0_drawnTold_5
def dkwX0_drawnTold_3 : List UInt8 := [16, 40, 162, 0, 16, 25, 4, 3, 21, 7, 3, 184, 0, 103, 182, 0, 213, 87, 132, 6, 1, 167, 255, 195]
abbrev dktX0_drawnTold_3 : List UInt8 := dkwX0_drawnTold_3 ++ dktX0_drawnTold_4
def dkwX0_drawnTold_2 : List UInt8 := [21, 7, 182, 0, 188, 198, 0, 14, 25, 4, 21, 7, 182, 0, 227, 87, 167, 0, 26, 25, 4, 180, 0, 167]
abbrev dktX0_drawnTold_2 : List UInt8 := dkwX0_drawnTold_2 ++ dktX0_drawnTold_3
def dkwX0_drawnTold_1 : List UInt8 := [180, 1, 9, 54, 5, 3, 54, 6, 21, 6, 27, 162, 0, 61, 42, 16, 100, 182, 1, 80, 54, 7, 25, 4]
abbrev dktX0_drawnTold_1 : List UInt8 := dkwX0_drawnTold_1 ++ dktX0_drawnTold_2
def dkwX0_drawnTold_0 : List UInt8 := [187, 0, 13, 89, 183, 0, 15, 42, 180, 0, 16, 182, 1, 33, 58, 4, 42, 28, 133, 181, 1, 70, 25, 4]
abbrev dktX0_drawnTold_0 : List UInt8 := dkwX0_drawnTold_0 ++ dktX0_drawnTold_1
theorem dksX0_drawnTold_0 : cX0_drawnTold.data.toList.drop 0 = dktX0_drawnTold_0 := by decide +kernel
theorem dksX0_drawnTold_1 : cX0_drawnTold.data.toList.drop 24 = dktX0_drawnTold_1 := dk_seg dksX0_drawnTold_0 24 rfl rfl
theorem dksX0_drawnTold_2 : cX0_drawnTold.data.toList.drop 48 = dktX0_drawnTold_2 := dk_seg dksX0_drawnTold_1 24 rfl rfl
theorem dksX0_drawnTold_3 : cX0_drawnTold.data.toList.drop 72 = dktX0_drawnTold_3 := dk_seg dksX0_drawnTold_2 24 rfl rfl
theorem dksX0_drawnTold_4 : cX0_drawnTold.data.toList.drop 96 = dktX0_drawnTold_4 := dk_seg dksX0_drawnTold_3 24 rfl rfl
theorem dksX0_drawnTold_5 : cX0_drawnTold.data.toList.drop 118 = dktX0_drawnTold_5 := dk_seg dksX0_drawnTold_4 22 rfl rfl
theorem dX0_drawnTold_0 : decode cX0_drawnTold 0 = .ok (.new 13, 3) := dk_187 0 13 (dk_at dksX0_drawnTold_0 0 rfl rfl)
theorem dX0_drawnTold_3 : decode cX0_drawnTold 3 = .ok (.dup, 1) := dk_89 (dk_at dksX0_drawnTold_0 3 rfl rfl)
theorem dX0_drawnTold_4 : decode cX0_drawnTold 4 = .ok (.invokespecial 15, 3) := dk_183 0 15 (dk_at dksX0_drawnTold_0 4 rfl rfl)
theorem dX0_drawnTold_7 : decode cX0_drawnTold 7 = .ok (.aload_n 0, 1) := dk_42 (dk_at dksX0_drawnTold_0 7 rfl rfl)
theorem dX0_drawnTold_8 : decode cX0_drawnTold 8 = .ok (.getfield 16, 3) := dk_180 0 16 (dk_at dksX0_drawnTold_0 8 rfl rfl)
theorem dX0_drawnTold_11 : decode cX0_drawnTold 11 = .ok (.invokevirtual 289, 3) := dk_182 1 33 (dk_at dksX0_drawnTold_0 11 rfl rfl)
theorem dX0_drawnTold_14 : decode cX0_drawnTold 14 = .ok (.astore 4, 2) := dk_58 4 (dk_at dksX0_drawnTold_0 14 rfl rfl)
theorem dX0_drawnTold_16 : decode cX0_drawnTold 16 = .ok (.aload_n 0, 1) := dk_42 (dk_at dksX0_drawnTold_0 16 rfl rfl)
theorem dX0_drawnTold_17 : decode cX0_drawnTold 17 = .ok (.iload_n 2, 1) := dk_28 (dk_at dksX0_drawnTold_0 17 rfl rfl)
theorem dX0_drawnTold_18 : decode cX0_drawnTold 18 = .ok (.i2l, 1) := dk_133 (dk_at dksX0_drawnTold_0 18 rfl rfl)
theorem dX0_drawnTold_19 : decode cX0_drawnTold 19 = .ok (.putfield 326, 3) := dk_181 1 70 (dk_at dksX0_drawnTold_0 19 rfl rfl)
theorem dX0_drawnTold_22 : decode cX0_drawnTold 22 = .ok (.aload 4, 2) := dk_25 4 (dk_at dksX0_drawnTold_0 22 rfl rfl)
theorem dX0_drawnTold_24 : decode cX0_drawnTold 24 = .ok (.getfield 265, 3) := dk_180 1 9 (dk_at dksX0_drawnTold_1 0 rfl rfl)
theorem dX0_drawnTold_27 : decode cX0_drawnTold 27 = .ok (.istore 5, 2) := dk_54 5 (dk_at dksX0_drawnTold_1 3 rfl rfl)
theorem dX0_drawnTold_29 : decode cX0_drawnTold 29 = .ok (.iconst 0, 1) := dk_3 (dk_at dksX0_drawnTold_1 5 rfl rfl)
theorem dX0_drawnTold_30 : decode cX0_drawnTold 30 = .ok (.istore 6, 2) := dk_54 6 (dk_at dksX0_drawnTold_1 6 rfl rfl)
theorem dX0_drawnTold_32 : decode cX0_drawnTold 32 = .ok (.iload 6, 2) := dk_21 6 (dk_at dksX0_drawnTold_1 8 rfl rfl)
theorem dX0_drawnTold_34 : decode cX0_drawnTold 34 = .ok (.iload_n 1, 1) := dk_27 (dk_at dksX0_drawnTold_1 10 rfl rfl)
theorem dX0_drawnTold_35 : decode cX0_drawnTold 35 = .ok (.if_icmp .ge 61, 3) := dk_162 0 61 (dk_at dksX0_drawnTold_1 11 rfl rfl)
theorem dX0_drawnTold_38 : decode cX0_drawnTold 38 = .ok (.aload_n 0, 1) := dk_42 (dk_at dksX0_drawnTold_1 14 rfl rfl)
theorem dX0_drawnTold_39 : decode cX0_drawnTold 39 = .ok (.bipush 100, 2) := dk_16 100 (dk_at dksX0_drawnTold_1 15 rfl rfl)
theorem dX0_drawnTold_41 : decode cX0_drawnTold 41 = .ok (.invokevirtual 336, 3) := dk_182 1 80 (dk_at dksX0_drawnTold_1 17 rfl rfl)
theorem dX0_drawnTold_44 : decode cX0_drawnTold 44 = .ok (.istore 7, 2) := dk_54 7 (dk_at dksX0_drawnTold_1 20 rfl rfl)
theorem dX0_drawnTold_46 : decode cX0_drawnTold 46 = .ok (.aload 4, 2) := dk_25 4 (dk_at dksX0_drawnTold_1 22 rfl rfl)
theorem dX0_drawnTold_48 : decode cX0_drawnTold 48 = .ok (.iload 7, 2) := dk_21 7 (dk_at dksX0_drawnTold_2 0 rfl rfl)
theorem dX0_drawnTold_50 : decode cX0_drawnTold 50 = .ok (.invokevirtual 188, 3) := dk_182 0 188 (dk_at dksX0_drawnTold_2 2 rfl rfl)
theorem dX0_drawnTold_53 : decode cX0_drawnTold 53 = .ok (.ifnull 14, 3) := dk_198 0 14 (dk_at dksX0_drawnTold_2 5 rfl rfl)
theorem dX0_drawnTold_56 : decode cX0_drawnTold 56 = .ok (.aload 4, 2) := dk_25 4 (dk_at dksX0_drawnTold_2 8 rfl rfl)
theorem dX0_drawnTold_58 : decode cX0_drawnTold 58 = .ok (.iload 7, 2) := dk_21 7 (dk_at dksX0_drawnTold_2 10 rfl rfl)
theorem dX0_drawnTold_60 : decode cX0_drawnTold 60 = .ok (.invokevirtual 227, 3) := dk_182 0 227 (dk_at dksX0_drawnTold_2 12 rfl rfl)
theorem dX0_drawnTold_63 : decode cX0_drawnTold 63 = .ok (.pop, 1) := dk_87 (dk_at dksX0_drawnTold_2 15 rfl rfl)
theorem dX0_drawnTold_64 : decode cX0_drawnTold 64 = .ok (.goto 26, 3) := dk_167 0 26 (dk_at dksX0_drawnTold_2 16 rfl rfl)
theorem dX0_drawnTold_67 : decode cX0_drawnTold 67 = .ok (.aload 4, 2) := dk_25 4 (dk_at dksX0_drawnTold_2 19 rfl rfl)
theorem dX0_drawnTold_69 : decode cX0_drawnTold 69 = .ok (.getfield 167, 3) := dk_180 0 167 (dk_at dksX0_drawnTold_2 21 rfl rfl)
theorem dX0_drawnTold_72 : decode cX0_drawnTold 72 = .ok (.bipush 40, 2) := dk_16 40 (dk_at dksX0_drawnTold_3 0 rfl rfl)
theorem dX0_drawnTold_74 : decode cX0_drawnTold 74 = .ok (.if_icmp .ge 16, 3) := dk_162 0 16 (dk_at dksX0_drawnTold_3 2 rfl rfl)
theorem dX0_drawnTold_77 : decode cX0_drawnTold 77 = .ok (.aload 4, 2) := dk_25 4 (dk_at dksX0_drawnTold_3 5 rfl rfl)
theorem dX0_drawnTold_79 : decode cX0_drawnTold 79 = .ok (.iconst 0, 1) := dk_3 (dk_at dksX0_drawnTold_3 7 rfl rfl)
theorem dX0_drawnTold_80 : decode cX0_drawnTold 80 = .ok (.iload 7, 2) := dk_21 7 (dk_at dksX0_drawnTold_3 8 rfl rfl)
theorem dX0_drawnTold_82 : decode cX0_drawnTold 82 = .ok (.iconst 0, 1) := dk_3 (dk_at dksX0_drawnTold_3 10 rfl rfl)
theorem dX0_drawnTold_83 : decode cX0_drawnTold 83 = .ok (.invokestatic 103, 3) := dk_184 0 103 (dk_at dksX0_drawnTold_3 11 rfl rfl)
theorem dX0_drawnTold_86 : decode cX0_drawnTold 86 = .ok (.invokevirtual 213, 3) := dk_182 0 213 (dk_at dksX0_drawnTold_3 14 rfl rfl)
theorem dX0_drawnTold_89 : decode cX0_drawnTold 89 = .ok (.pop, 1) := dk_87 (dk_at dksX0_drawnTold_3 17 rfl rfl)
theorem dX0_drawnTold_90 : decode cX0_drawnTold 90 = .ok (.iinc 6 1, 3) := dk_132 6 1 (dk_at dksX0_drawnTold_3 18 rfl rfl)
theorem dX0_drawnTold_93 : decode cX0_drawnTold 93 = .ok (.goto (-61), 3) := dk_167 255 195 (dk_at dksX0_drawnTold_3 21 rfl rfl)
theorem dX0_drawnTold_96 : decode cX0_drawnTold 96 = .ok (.iload_n 3, 1) := dk_29 (dk_at dksX0_drawnTold_4 0 rfl rfl)
theorem dX0_drawnTold_97 : decode cX0_drawnTold 97 = .ok (.ifCond .ne 14, 3) := dk_154 0 14 (dk_at dksX0_drawnTold_4 1 rfl rfl)
theorem dX0_drawnTold_100 : decode cX0_drawnTold 100 = .ok (.aload 4, 2) := dk_25 4 (dk_at dksX0_drawnTold_4 4 rfl rfl)
theorem dX0_drawnTold_102 : decode cX0_drawnTold 102 = .ok (.getfield 265, 3) := dk_180 1 9 (dk_at dksX0_drawnTold_4 6 rfl rfl)
theorem dX0_drawnTold_105 : decode cX0_drawnTold 105 = .ok (.iload 5, 2) := dk_21 5 (dk_at dksX0_drawnTold_4 9 rfl rfl)
theorem dX0_drawnTold_107 : decode cX0_drawnTold 107 = .ok (.isub, 1) := dk_100 (dk_at dksX0_drawnTold_4 11 rfl rfl)
theorem dX0_drawnTold_108 : decode cX0_drawnTold 108 = .ok (.goto 24, 3) := dk_167 0 24 (dk_at dksX0_drawnTold_4 12 rfl rfl)
theorem dX0_drawnTold_111 : decode cX0_drawnTold 111 = .ok (.iload_n 3, 1) := dk_29 (dk_at dksX0_drawnTold_4 15 rfl rfl)
theorem dX0_drawnTold_112 : decode cX0_drawnTold 112 = .ok (.iconst 1, 1) := dk_4 (dk_at dksX0_drawnTold_4 16 rfl rfl)
theorem dX0_drawnTold_113 : decode cX0_drawnTold 113 = .ok (.if_icmp .ne 14, 3) := dk_160 0 14 (dk_at dksX0_drawnTold_4 17 rfl rfl)
theorem dX0_drawnTold_116 : decode cX0_drawnTold 116 = .ok (.aload 4, 2) := dk_25 4 (dk_at dksX0_drawnTold_4 20 rfl rfl)
theorem dX0_drawnTold_118 : decode cX0_drawnTold 118 = .ok (.getfield 185, 3) := dk_180 0 185 (dk_at dksX0_drawnTold_5 0 rfl rfl)
theorem dX0_drawnTold_121 : decode cX0_drawnTold 121 = .ok (.invokestatic 90, 3) := dk_184 0 90 (dk_at dksX0_drawnTold_5 3 rfl rfl)
theorem dX0_drawnTold_124 : decode cX0_drawnTold 124 = .ok (.goto 8, 3) := dk_167 0 8 (dk_at dksX0_drawnTold_5 6 rfl rfl)
theorem dX0_drawnTold_127 : decode cX0_drawnTold 127 = .ok (.aload_n 0, 1) := dk_42 (dk_at dksX0_drawnTold_5 9 rfl rfl)
theorem dX0_drawnTold_128 : decode cX0_drawnTold 128 = .ok (.getfield 326, 3) := dk_180 1 70 (dk_at dksX0_drawnTold_5 10 rfl rfl)
theorem dX0_drawnTold_131 : decode cX0_drawnTold 131 = .ok (.l2i, 1) := dk_136 (dk_at dksX0_drawnTold_5 13 rfl rfl)
theorem dX0_drawnTold_132 : decode cX0_drawnTold 132 = .ok (.ireturn, 1) := dk_172 (dk_at dksX0_drawnTold_5 14 rfl rfl)
abbrev cX0_draw : ByteArray := prog_1_method_49_code
def yX0_draw : MethodName := ⟨RX0, "draw", "(I)I"⟩
def dkwX0_draw_1 : List UInt8 := [20, 1, 78, 109, 27, 133, 113, 136, 172]
abbrev dktX0_draw_1 : List UInt8 := dkwX0_draw_1 ++ []
def dkwX0_draw_0 : List UInt8 := [42, 20, 1, 68, 42, 180, 1, 70, 105, 20, 1, 74, 97, 20, 1, 76, 127, 181, 1, 70, 42, 180, 1, 70]
abbrev dktX0_draw_0 : List UInt8 := dkwX0_draw_0 ++ dktX0_draw_1
theorem dksX0_draw_0 : cX0_draw.data.toList.drop 0 = dktX0_draw_0 := by decide +kernel
theorem dksX0_draw_1 : cX0_draw.data.toList.drop 24 = dktX0_draw_1 := dk_seg dksX0_draw_0 24 rfl rfl
theorem dX0_draw_0 : decode cX0_draw 0 = .ok (.aload_n 0, 1) := dk_42 (dk_at dksX0_draw_0 0 rfl rfl)
theorem dX0_draw_1 : decode cX0_draw 1 = .ok (.ldc2_w 324, 3) := dk_20 1 68 (dk_at dksX0_draw_0 1 rfl rfl)
theorem dX0_draw_4 : decode cX0_draw 4 = .ok (.aload_n 0, 1) := dk_42 (dk_at dksX0_draw_0 4 rfl rfl)
theorem dX0_draw_5 : decode cX0_draw 5 = .ok (.getfield 326, 3) := dk_180 1 70 (dk_at dksX0_draw_0 5 rfl rfl)
theorem dX0_draw_8 : decode cX0_draw 8 = .ok (.lmul, 1) := dk_105 (dk_at dksX0_draw_0 8 rfl rfl)
theorem dX0_draw_9 : decode cX0_draw 9 = .ok (.ldc2_w 330, 3) := dk_20 1 74 (dk_at dksX0_draw_0 9 rfl rfl)
theorem dX0_draw_12 : decode cX0_draw 12 = .ok (.ladd, 1) := dk_97 (dk_at dksX0_draw_0 12 rfl rfl)
theorem dX0_draw_13 : decode cX0_draw 13 = .ok (.ldc2_w 332, 3) := dk_20 1 76 (dk_at dksX0_draw_0 13 rfl rfl)
theorem dX0_draw_16 : decode cX0_draw 16 = .ok (.land, 1) := dk_127 (dk_at dksX0_draw_0 16 rfl rfl)
theorem dX0_draw_17 : decode cX0_draw 17 = .ok (.putfield 326, 3) := dk_181 1 70 (dk_at dksX0_draw_0 17 rfl rfl)
theorem dX0_draw_20 : decode cX0_draw 20 = .ok (.aload_n 0, 1) := dk_42 (dk_at dksX0_draw_0 20 rfl rfl)
theorem dX0_draw_21 : decode cX0_draw 21 = .ok (.getfield 326, 3) := dk_180 1 70 (dk_at dksX0_draw_0 21 rfl rfl)
theorem dX0_draw_24 : decode cX0_draw 24 = .ok (.ldc2_w 334, 3) := dk_20 1 78 (dk_at dksX0_draw_1 0 rfl rfl)
theorem dX0_draw_27 : decode cX0_draw 27 = .ok (.ldiv, 1) := dk_109 (dk_at dksX0_draw_1 3 rfl rfl)
theorem dX0_draw_28 : decode cX0_draw 28 = .ok (.iload_n 1, 1) := dk_27 (dk_at dksX0_draw_1 4 rfl rfl)
theorem dX0_draw_29 : decode cX0_draw 29 = .ok (.i2l, 1) := dk_133 (dk_at dksX0_draw_1 5 rfl rfl)
theorem dX0_draw_30 : decode cX0_draw 30 = .ok (.lrem, 1) := dk_113 (dk_at dksX0_draw_1 6 rfl rfl)
theorem dX0_draw_31 : decode cX0_draw 31 = .ok (.l2i, 1) := dk_136 (dk_at dksX0_draw_1 7 rfl rfl)
theorem dX0_draw_32 : decode cX0_draw 32 = .ok (.ireturn, 1) := dk_172 (dk_at dksX0_draw_1 8 rfl rfl)
abbrev cX0_image : ByteArray := prog_1_method_52_code
def yX0_image : MethodName := ⟨RX0, "image", "()I"⟩
def dkwX0_image_5 : List UInt8 := [180, 0, 34, 27, 51, 84, 132, 1, 1, 167, 255, 211, 42, 180, 0, 16, 180, 0, 167, 172]
abbrev dktX0_image_5 : List UInt8 := dkwX0_image_5 ++ []
def dkwX0_image_4 : List UInt8 := [180, 0, 28, 27, 46, 79, 42, 180, 0, 51, 27, 42, 180, 0, 31, 27, 46, 79, 42, 180, 0, 54, 27, 42]
abbrev dktX0_image_4 : List UInt8 := dkwX0_image_4 ++ dktX0_image_5
def dkwX0_image_3 : List UInt8 := [46, 79, 132, 1, 1, 167, 255, 235, 3, 60, 27, 16, 6, 162, 0, 45, 42, 180, 0, 48, 27, 42]
abbrev dktX0_image_3 : List UInt8 := dkwX0_image_3 ++ dktX0_image_4
def dkwX0_image_2 : List UInt8 := [180, 0, 164, 181, 1, 95, 3, 60, 27, 16, 60, 162, 0, 21, 42, 180, 0, 45, 27, 42, 180, 0, 24, 27]
abbrev dktX0_image_2 : List UInt8 := dkwX0_image_2 ++ dktX0_image_3
def dkwX0_image_1 : List UInt8 := [182, 1, 33, 181, 1, 86, 42, 42, 180, 0, 111, 181, 1, 89, 42, 42, 180, 0, 144, 181, 1, 92, 42, 42]
abbrev dktX0_image_1 : List UInt8 := dkwX0_image_1 ++ dktX0_image_2
def dkwX0_image_0 : List UInt8 := [42, 182, 0, 205, 154, 0, 6, 16, 153, 172, 42, 187, 0, 13, 89, 183, 0, 15, 42, 180, 0, 16]
abbrev dktX0_image_0 : List UInt8 := dkwX0_image_0 ++ dktX0_image_1
theorem dksX0_image_0 : cX0_image.data.toList.drop 0 = dktX0_image_0 := by decide +kernel
theorem dksX0_image_1 : cX0_image.data.toList.drop 22 = dktX0_image_1 := dk_seg dksX0_image_0 22 rfl rfl
theorem dksX0_image_2 : cX0_image.data.toList.drop 46 = dktX0_image_2 := dk_seg dksX0_image_1 24 rfl rfl
theorem dksX0_image_3 : cX0_image.data.toList.drop 70 = dktX0_image_3 := dk_seg dksX0_image_2 24 rfl rfl
theorem dksX0_image_4 : cX0_image.data.toList.drop 92 = dktX0_image_4 := dk_seg dksX0_image_3 22 rfl rfl
theorem dksX0_image_5 : cX0_image.data.toList.drop 116 = dktX0_image_5 := dk_seg dksX0_image_4 24 rfl rfl
theorem dX0_image_0 : decode cX0_image 0 = .ok (.aload_n 0, 1) := dk_42 (dk_at dksX0_image_0 0 rfl rfl)
theorem dX0_image_1 : decode cX0_image 1 = .ok (.invokevirtual 205, 3) := dk_182 0 205 (dk_at dksX0_image_0 1 rfl rfl)
theorem dX0_image_4 : decode cX0_image 4 = .ok (.ifCond .ne 6, 3) := dk_154 0 6 (dk_at dksX0_image_0 4 rfl rfl)
theorem dX0_image_7 : decode cX0_image 7 = .ok (.bipush (-103), 2) := dk_16 153 (dk_at dksX0_image_0 7 rfl rfl)
theorem dX0_image_9 : decode cX0_image 9 = .ok (.ireturn, 1) := dk_172 (dk_at dksX0_image_0 9 rfl rfl)
theorem dX0_image_10 : decode cX0_image 10 = .ok (.aload_n 0, 1) := dk_42 (dk_at dksX0_image_0 10 rfl rfl)
theorem dX0_image_11 : decode cX0_image 11 = .ok (.new 13, 3) := dk_187 0 13 (dk_at dksX0_image_0 11 rfl rfl)
theorem dX0_image_14 : decode cX0_image 14 = .ok (.dup, 1) := dk_89 (dk_at dksX0_image_0 14 rfl rfl)
theorem dX0_image_15 : decode cX0_image 15 = .ok (.invokespecial 15, 3) := dk_183 0 15 (dk_at dksX0_image_0 15 rfl rfl)
theorem dX0_image_18 : decode cX0_image 18 = .ok (.aload_n 0, 1) := dk_42 (dk_at dksX0_image_0 18 rfl rfl)
theorem dX0_image_19 : decode cX0_image 19 = .ok (.getfield 16, 3) := dk_180 0 16 (dk_at dksX0_image_0 19 rfl rfl)
theorem dX0_image_22 : decode cX0_image 22 = .ok (.invokevirtual 289, 3) := dk_182 1 33 (dk_at dksX0_image_1 0 rfl rfl)
theorem dX0_image_25 : decode cX0_image 25 = .ok (.putfield 342, 3) := dk_181 1 86 (dk_at dksX0_image_1 3 rfl rfl)
theorem dX0_image_28 : decode cX0_image 28 = .ok (.aload_n 0, 1) := dk_42 (dk_at dksX0_image_1 6 rfl rfl)
theorem dX0_image_29 : decode cX0_image 29 = .ok (.aload_n 0, 1) := dk_42 (dk_at dksX0_image_1 7 rfl rfl)
theorem dX0_image_30 : decode cX0_image 30 = .ok (.getfield 111, 3) := dk_180 0 111 (dk_at dksX0_image_1 8 rfl rfl)
theorem dX0_image_33 : decode cX0_image 33 = .ok (.putfield 345, 3) := dk_181 1 89 (dk_at dksX0_image_1 11 rfl rfl)
theorem dX0_image_36 : decode cX0_image 36 = .ok (.aload_n 0, 1) := dk_42 (dk_at dksX0_image_1 14 rfl rfl)
theorem dX0_image_37 : decode cX0_image 37 = .ok (.aload_n 0, 1) := dk_42 (dk_at dksX0_image_1 15 rfl rfl)
theorem dX0_image_38 : decode cX0_image 38 = .ok (.getfield 144, 3) := dk_180 0 144 (dk_at dksX0_image_1 16 rfl rfl)
theorem dX0_image_41 : decode cX0_image 41 = .ok (.putfield 348, 3) := dk_181 1 92 (dk_at dksX0_image_1 19 rfl rfl)
theorem dX0_image_44 : decode cX0_image 44 = .ok (.aload_n 0, 1) := dk_42 (dk_at dksX0_image_1 22 rfl rfl)
theorem dX0_image_45 : decode cX0_image 45 = .ok (.aload_n 0, 1) := dk_42 (dk_at dksX0_image_1 23 rfl rfl)
theorem dX0_image_46 : decode cX0_image 46 = .ok (.getfield 164, 3) := dk_180 0 164 (dk_at dksX0_image_2 0 rfl rfl)
theorem dX0_image_49 : decode cX0_image 49 = .ok (.putfield 351, 3) := dk_181 1 95 (dk_at dksX0_image_2 3 rfl rfl)
theorem dX0_image_52 : decode cX0_image 52 = .ok (.iconst 0, 1) := dk_3 (dk_at dksX0_image_2 6 rfl rfl)
theorem dX0_image_53 : decode cX0_image 53 = .ok (.istore_n 1, 1) := dk_60 (dk_at dksX0_image_2 7 rfl rfl)
theorem dX0_image_54 : decode cX0_image 54 = .ok (.iload_n 1, 1) := dk_27 (dk_at dksX0_image_2 8 rfl rfl)
theorem dX0_image_55 : decode cX0_image 55 = .ok (.bipush 60, 2) := dk_16 60 (dk_at dksX0_image_2 9 rfl rfl)
theorem dX0_image_57 : decode cX0_image 57 = .ok (.if_icmp .ge 21, 3) := dk_162 0 21 (dk_at dksX0_image_2 11 rfl rfl)
theorem dX0_image_60 : decode cX0_image 60 = .ok (.aload_n 0, 1) := dk_42 (dk_at dksX0_image_2 14 rfl rfl)
theorem dX0_image_61 : decode cX0_image 61 = .ok (.getfield 45, 3) := dk_180 0 45 (dk_at dksX0_image_2 15 rfl rfl)
theorem dX0_image_64 : decode cX0_image 64 = .ok (.iload_n 1, 1) := dk_27 (dk_at dksX0_image_2 18 rfl rfl)
theorem dX0_image_65 : decode cX0_image 65 = .ok (.aload_n 0, 1) := dk_42 (dk_at dksX0_image_2 19 rfl rfl)
theorem dX0_image_66 : decode cX0_image 66 = .ok (.getfield 24, 3) := dk_180 0 24 (dk_at dksX0_image_2 20 rfl rfl)
theorem dX0_image_69 : decode cX0_image 69 = .ok (.iload_n 1, 1) := dk_27 (dk_at dksX0_image_2 23 rfl rfl)
theorem dX0_image_70 : decode cX0_image 70 = .ok (.iaload, 1) := dk_46 (dk_at dksX0_image_3 0 rfl rfl)
theorem dX0_image_71 : decode cX0_image 71 = .ok (.iastore, 1) := dk_79 (dk_at dksX0_image_3 1 rfl rfl)
theorem dX0_image_72 : decode cX0_image 72 = .ok (.iinc 1 1, 3) := dk_132 1 1 (dk_at dksX0_image_3 2 rfl rfl)
theorem dX0_image_75 : decode cX0_image 75 = .ok (.goto (-21), 3) := dk_167 255 235 (dk_at dksX0_image_3 5 rfl rfl)
theorem dX0_image_78 : decode cX0_image 78 = .ok (.iconst 0, 1) := dk_3 (dk_at dksX0_image_3 8 rfl rfl)
theorem dX0_image_79 : decode cX0_image 79 = .ok (.istore_n 1, 1) := dk_60 (dk_at dksX0_image_3 9 rfl rfl)
theorem dX0_image_80 : decode cX0_image 80 = .ok (.iload_n 1, 1) := dk_27 (dk_at dksX0_image_3 10 rfl rfl)
theorem dX0_image_81 : decode cX0_image 81 = .ok (.bipush 6, 2) := dk_16 6 (dk_at dksX0_image_3 11 rfl rfl)
theorem dX0_image_83 : decode cX0_image 83 = .ok (.if_icmp .ge 45, 3) := dk_162 0 45 (dk_at dksX0_image_3 13 rfl rfl)
theorem dX0_image_86 : decode cX0_image 86 = .ok (.aload_n 0, 1) := dk_42 (dk_at dksX0_image_3 16 rfl rfl)
theorem dX0_image_87 : decode cX0_image 87 = .ok (.getfield 48, 3) := dk_180 0 48 (dk_at dksX0_image_3 17 rfl rfl)
theorem dX0_image_90 : decode cX0_image 90 = .ok (.iload_n 1, 1) := dk_27 (dk_at dksX0_image_3 20 rfl rfl)
theorem dX0_image_91 : decode cX0_image 91 = .ok (.aload_n 0, 1) := dk_42 (dk_at dksX0_image_3 21 rfl rfl)
theorem dX0_image_92 : decode cX0_image 92 = .ok (.getfield 28, 3) := dk_180 0 28 (dk_at dksX0_image_4 0 rfl rfl)
theorem dX0_image_95 : decode cX0_image 95 = .ok (.iload_n 1, 1) := dk_27 (dk_at dksX0_image_4 3 rfl rfl)
theorem dX0_image_96 : decode cX0_image 96 = .ok (.iaload, 1) := dk_46 (dk_at dksX0_image_4 4 rfl rfl)
theorem dX0_image_97 : decode cX0_image 97 = .ok (.iastore, 1) := dk_79 (dk_at dksX0_image_4 5 rfl rfl)
theorem dX0_image_98 : decode cX0_image 98 = .ok (.aload_n 0, 1) := dk_42 (dk_at dksX0_image_4 6 rfl rfl)
theorem dX0_image_99 : decode cX0_image 99 = .ok (.getfield 51, 3) := dk_180 0 51 (dk_at dksX0_image_4 7 rfl rfl)
theorem dX0_image_102 : decode cX0_image 102 = .ok (.iload_n 1, 1) := dk_27 (dk_at dksX0_image_4 10 rfl rfl)
theorem dX0_image_103 : decode cX0_image 103 = .ok (.aload_n 0, 1) := dk_42 (dk_at dksX0_image_4 11 rfl rfl)
theorem dX0_image_104 : decode cX0_image 104 = .ok (.getfield 31, 3) := dk_180 0 31 (dk_at dksX0_image_4 12 rfl rfl)
theorem dX0_image_107 : decode cX0_image 107 = .ok (.iload_n 1, 1) := dk_27 (dk_at dksX0_image_4 15 rfl rfl)
theorem dX0_image_108 : decode cX0_image 108 = .ok (.iaload, 1) := dk_46 (dk_at dksX0_image_4 16 rfl rfl)
theorem dX0_image_109 : decode cX0_image 109 = .ok (.iastore, 1) := dk_79 (dk_at dksX0_image_4 17 rfl rfl)
theorem dX0_image_110 : decode cX0_image 110 = .ok (.aload_n 0, 1) := dk_42 (dk_at dksX0_image_4 18 rfl rfl)
theorem dX0_image_111 : decode cX0_image 111 = .ok (.getfield 54, 3) := dk_180 0 54 (dk_at dksX0_image_4 19 rfl rfl)
theorem dX0_image_114 : decode cX0_image 114 = .ok (.iload_n 1, 1) := dk_27 (dk_at dksX0_image_4 22 rfl rfl)
theorem dX0_image_115 : decode cX0_image 115 = .ok (.aload_n 0, 1) := dk_42 (dk_at dksX0_image_4 23 rfl rfl)
theorem dX0_image_116 : decode cX0_image 116 = .ok (.getfield 34, 3) := dk_180 0 34 (dk_at dksX0_image_5 0 rfl rfl)
theorem dX0_image_119 : decode cX0_image 119 = .ok (.iload_n 1, 1) := dk_27 (dk_at dksX0_image_5 3 rfl rfl)
theorem dX0_image_120 : decode cX0_image 120 = .ok (.baload, 1) := dk_51 (dk_at dksX0_image_5 4 rfl rfl)
theorem dX0_image_121 : decode cX0_image 121 = .ok (.bastore, 1) := dk_84 (dk_at dksX0_image_5 5 rfl rfl)
theorem dX0_image_122 : decode cX0_image 122 = .ok (.iinc 1 1, 3) := dk_132 1 1 (dk_at dksX0_image_5 6 rfl rfl)
theorem dX0_image_125 : decode cX0_image 125 = .ok (.goto (-45), 3) := dk_167 255 211 (dk_at dksX0_image_5 9 rfl rfl)
theorem dX0_image_128 : decode cX0_image 128 = .ok (.aload_n 0, 1) := dk_42 (dk_at dksX0_image_5 12 rfl rfl)
theorem dX0_image_129 : decode cX0_image 129 = .ok (.getfield 16, 3) := dk_180 0 16 (dk_at dksX0_image_5 13 rfl rfl)
theorem dX0_image_132 : decode cX0_image 132 = .ok (.getfield 167, 3) := dk_180 0 167 (dk_at dksX0_image_5 16 rfl rfl)
theorem dX0_image_135 : decode cX0_image 135 = .ok (.ireturn, 1) := dk_172 (dk_at dksX0_image_5 19 rfl rfl)
abbrev cX0_restore : ByteArray := prog_1_method_53_code
def yX0_restore : MethodName := ⟨RX0, "restore", "()I"⟩
def dkwX0_restore_6 : List UInt8 := [172]
abbrev dktX0_restore_6 : List UInt8 := dkwX0_restore_6 ++ []
def dkwX0_restore_5 : List UInt8 := [180, 0, 34, 27, 42, 180, 0, 54, 27, 51, 84, 132, 1, 1, 167, 255, 211, 42, 180, 0, 16, 180, 0, 167]
abbrev dktX0_restore_5 : List UInt8 := dkwX0_restore_5 ++ dktX0_restore_6
def dkwX0_restore_4 : List UInt8 := [180, 0, 28, 27, 42, 180, 0, 48, 27, 46, 79, 42, 180, 0, 31, 27, 42, 180, 0, 51, 27, 46, 79, 42]
abbrev dktX0_restore_4 : List UInt8 := dkwX0_restore_4 ++ dktX0_restore_5
def dkwX0_restore_3 : List UInt8 := [42, 180, 0, 45, 27, 46, 79, 132, 1, 1, 167, 255, 235, 3, 60, 27, 16, 6, 162, 0, 45, 42]
abbrev dktX0_restore_3 : List UInt8 := dkwX0_restore_3 ++ dktX0_restore_4
def dkwX0_restore_2 : List UInt8 := [181, 0, 144, 42, 42, 180, 1, 95, 181, 0, 164, 3, 60, 27, 16, 60, 162, 0, 21, 42, 180, 0, 24, 27]
abbrev dktX0_restore_2 : List UInt8 := dkwX0_restore_2 ++ dktX0_restore_3
def dkwX0_restore_1 : List UInt8 := [187, 0, 13, 89, 183, 0, 15, 42, 180, 1, 86, 182, 1, 33, 181, 0, 16, 42, 42, 180, 1, 92]
abbrev dktX0_restore_1 : List UInt8 := dkwX0_restore_1 ++ dktX0_restore_2
def dkwX0_restore_0 : List UInt8 := [42, 180, 1, 86, 198, 0, 14, 42, 180, 1, 89, 42, 180, 0, 111, 159, 0, 6, 16, 153, 172, 42]
abbrev dktX0_restore_0 : List UInt8 := dkwX0_restore_0 ++ dktX0_restore_1
theorem dksX0_restore_0 : cX0_restore.data.toList.drop 0 = dktX0_restore_0 := by decide +kernel
theorem dksX0_restore_1 : cX0_restore.data.toList.drop 22 = dktX0_restore_1 := dk_seg dksX0_restore_0 22 rfl rfl
theorem dksX0_restore_2 : cX0_restore.data.toList.drop 44 = dktX0_restore_2 := dk_seg dksX0_restore_1 22 rfl rfl
theorem dksX0_restore_3 : cX0_restore.data.toList.drop 68 = dktX0_restore_3 := dk_seg dksX0_restore_2 24 rfl rfl
theorem dksX0_restore_4 : cX0_restore.data.toList.drop 90 = dktX0_restore_4 := dk_seg dksX0_restore_3 22 rfl rfl
theorem dksX0_restore_5 : cX0_restore.data.toList.drop 114 = dktX0_restore_5 := dk_seg dksX0_restore_4 24 rfl rfl
theorem dksX0_restore_6 : cX0_restore.data.toList.drop 138 = dktX0_restore_6 := dk_seg dksX0_restore_5 24 rfl rfl
theorem dX0_restore_0 : decode cX0_restore 0 = .ok (.aload_n 0, 1) := dk_42 (dk_at dksX0_restore_0 0 rfl rfl)
theorem dX0_restore_1 : decode cX0_restore 1 = .ok (.getfield 342, 3) := dk_180 1 86 (dk_at dksX0_restore_0 1 rfl rfl)
theorem dX0_restore_4 : decode cX0_restore 4 = .ok (.ifnull 14, 3) := dk_198 0 14 (dk_at dksX0_restore_0 4 rfl rfl)
theorem dX0_restore_7 : decode cX0_restore 7 = .ok (.aload_n 0, 1) := dk_42 (dk_at dksX0_restore_0 7 rfl rfl)
theorem dX0_restore_8 : decode cX0_restore 8 = .ok (.getfield 345, 3) := dk_180 1 89 (dk_at dksX0_restore_0 8 rfl rfl)
theorem dX0_restore_11 : decode cX0_restore 11 = .ok (.aload_n 0, 1) := dk_42 (dk_at dksX0_restore_0 11 rfl rfl)
theorem dX0_restore_12 : decode cX0_restore 12 = .ok (.getfield 111, 3) := dk_180 0 111 (dk_at dksX0_restore_0 12 rfl rfl)
theorem dX0_restore_15 : decode cX0_restore 15 = .ok (.if_icmp .eq 6, 3) := dk_159 0 6 (dk_at dksX0_restore_0 15 rfl rfl)
theorem dX0_restore_18 : decode cX0_restore 18 = .ok (.bipush (-103), 2) := dk_16 153 (dk_at dksX0_restore_0 18 rfl rfl)
theorem dX0_restore_20 : decode cX0_restore 20 = .ok (.ireturn, 1) := dk_172 (dk_at dksX0_restore_0 20 rfl rfl)
theorem dX0_restore_21 : decode cX0_restore 21 = .ok (.aload_n 0, 1) := dk_42 (dk_at dksX0_restore_0 21 rfl rfl)
theorem dX0_restore_22 : decode cX0_restore 22 = .ok (.new 13, 3) := dk_187 0 13 (dk_at dksX0_restore_1 0 rfl rfl)
theorem dX0_restore_25 : decode cX0_restore 25 = .ok (.dup, 1) := dk_89 (dk_at dksX0_restore_1 3 rfl rfl)
theorem dX0_restore_26 : decode cX0_restore 26 = .ok (.invokespecial 15, 3) := dk_183 0 15 (dk_at dksX0_restore_1 4 rfl rfl)
theorem dX0_restore_29 : decode cX0_restore 29 = .ok (.aload_n 0, 1) := dk_42 (dk_at dksX0_restore_1 7 rfl rfl)
theorem dX0_restore_30 : decode cX0_restore 30 = .ok (.getfield 342, 3) := dk_180 1 86 (dk_at dksX0_restore_1 8 rfl rfl)
theorem dX0_restore_33 : decode cX0_restore 33 = .ok (.invokevirtual 289, 3) := dk_182 1 33 (dk_at dksX0_restore_1 11 rfl rfl)
theorem dX0_restore_36 : decode cX0_restore 36 = .ok (.putfield 16, 3) := dk_181 0 16 (dk_at dksX0_restore_1 14 rfl rfl)
theorem dX0_restore_39 : decode cX0_restore 39 = .ok (.aload_n 0, 1) := dk_42 (dk_at dksX0_restore_1 17 rfl rfl)
theorem dX0_restore_40 : decode cX0_restore 40 = .ok (.aload_n 0, 1) := dk_42 (dk_at dksX0_restore_1 18 rfl rfl)
theorem dX0_restore_41 : decode cX0_restore 41 = .ok (.getfield 348, 3) := dk_180 1 92 (dk_at dksX0_restore_1 19 rfl rfl)
theorem dX0_restore_44 : decode cX0_restore 44 = .ok (.putfield 144, 3) := dk_181 0 144 (dk_at dksX0_restore_2 0 rfl rfl)
theorem dX0_restore_47 : decode cX0_restore 47 = .ok (.aload_n 0, 1) := dk_42 (dk_at dksX0_restore_2 3 rfl rfl)
theorem dX0_restore_48 : decode cX0_restore 48 = .ok (.aload_n 0, 1) := dk_42 (dk_at dksX0_restore_2 4 rfl rfl)
theorem dX0_restore_49 : decode cX0_restore 49 = .ok (.getfield 351, 3) := dk_180 1 95 (dk_at dksX0_restore_2 5 rfl rfl)
theorem dX0_restore_52 : decode cX0_restore 52 = .ok (.putfield 164, 3) := dk_181 0 164 (dk_at dksX0_restore_2 8 rfl rfl)
theorem dX0_restore_55 : decode cX0_restore 55 = .ok (.iconst 0, 1) := dk_3 (dk_at dksX0_restore_2 11 rfl rfl)
theorem dX0_restore_56 : decode cX0_restore 56 = .ok (.istore_n 1, 1) := dk_60 (dk_at dksX0_restore_2 12 rfl rfl)
theorem dX0_restore_57 : decode cX0_restore 57 = .ok (.iload_n 1, 1) := dk_27 (dk_at dksX0_restore_2 13 rfl rfl)
theorem dX0_restore_58 : decode cX0_restore 58 = .ok (.bipush 60, 2) := dk_16 60 (dk_at dksX0_restore_2 14 rfl rfl)
theorem dX0_restore_60 : decode cX0_restore 60 = .ok (.if_icmp .ge 21, 3) := dk_162 0 21 (dk_at dksX0_restore_2 16 rfl rfl)
theorem dX0_restore_63 : decode cX0_restore 63 = .ok (.aload_n 0, 1) := dk_42 (dk_at dksX0_restore_2 19 rfl rfl)
theorem dX0_restore_64 : decode cX0_restore 64 = .ok (.getfield 24, 3) := dk_180 0 24 (dk_at dksX0_restore_2 20 rfl rfl)
theorem dX0_restore_67 : decode cX0_restore 67 = .ok (.iload_n 1, 1) := dk_27 (dk_at dksX0_restore_2 23 rfl rfl)
theorem dX0_restore_68 : decode cX0_restore 68 = .ok (.aload_n 0, 1) := dk_42 (dk_at dksX0_restore_3 0 rfl rfl)
theorem dX0_restore_69 : decode cX0_restore 69 = .ok (.getfield 45, 3) := dk_180 0 45 (dk_at dksX0_restore_3 1 rfl rfl)
theorem dX0_restore_72 : decode cX0_restore 72 = .ok (.iload_n 1, 1) := dk_27 (dk_at dksX0_restore_3 4 rfl rfl)
theorem dX0_restore_73 : decode cX0_restore 73 = .ok (.iaload, 1) := dk_46 (dk_at dksX0_restore_3 5 rfl rfl)
theorem dX0_restore_74 : decode cX0_restore 74 = .ok (.iastore, 1) := dk_79 (dk_at dksX0_restore_3 6 rfl rfl)
theorem dX0_restore_75 : decode cX0_restore 75 = .ok (.iinc 1 1, 3) := dk_132 1 1 (dk_at dksX0_restore_3 7 rfl rfl)
theorem dX0_restore_78 : decode cX0_restore 78 = .ok (.goto (-21), 3) := dk_167 255 235 (dk_at dksX0_restore_3 10 rfl rfl)
theorem dX0_restore_81 : decode cX0_restore 81 = .ok (.iconst 0, 1) := dk_3 (dk_at dksX0_restore_3 13 rfl rfl)
theorem dX0_restore_82 : decode cX0_restore 82 = .ok (.istore_n 1, 1) := dk_60 (dk_at dksX0_restore_3 14 rfl rfl)
theorem dX0_restore_83 : decode cX0_restore 83 = .ok (.iload_n 1, 1) := dk_27 (dk_at dksX0_restore_3 15 rfl rfl)
theorem dX0_restore_84 : decode cX0_restore 84 = .ok (.bipush 6, 2) := dk_16 6 (dk_at dksX0_restore_3 16 rfl rfl)
theorem dX0_restore_86 : decode cX0_restore 86 = .ok (.if_icmp .ge 45, 3) := dk_162 0 45 (dk_at dksX0_restore_3 18 rfl rfl)
theorem dX0_restore_89 : decode cX0_restore 89 = .ok (.aload_n 0, 1) := dk_42 (dk_at dksX0_restore_3 21 rfl rfl)
theorem dX0_restore_90 : decode cX0_restore 90 = .ok (.getfield 28, 3) := dk_180 0 28 (dk_at dksX0_restore_4 0 rfl rfl)
theorem dX0_restore_93 : decode cX0_restore 93 = .ok (.iload_n 1, 1) := dk_27 (dk_at dksX0_restore_4 3 rfl rfl)
theorem dX0_restore_94 : decode cX0_restore 94 = .ok (.aload_n 0, 1) := dk_42 (dk_at dksX0_restore_4 4 rfl rfl)
theorem dX0_restore_95 : decode cX0_restore 95 = .ok (.getfield 48, 3) := dk_180 0 48 (dk_at dksX0_restore_4 5 rfl rfl)
theorem dX0_restore_98 : decode cX0_restore 98 = .ok (.iload_n 1, 1) := dk_27 (dk_at dksX0_restore_4 8 rfl rfl)
theorem dX0_restore_99 : decode cX0_restore 99 = .ok (.iaload, 1) := dk_46 (dk_at dksX0_restore_4 9 rfl rfl)
theorem dX0_restore_100 : decode cX0_restore 100 = .ok (.iastore, 1) := dk_79 (dk_at dksX0_restore_4 10 rfl rfl)
theorem dX0_restore_101 : decode cX0_restore 101 = .ok (.aload_n 0, 1) := dk_42 (dk_at dksX0_restore_4 11 rfl rfl)
theorem dX0_restore_102 : decode cX0_restore 102 = .ok (.getfield 31, 3) := dk_180 0 31 (dk_at dksX0_restore_4 12 rfl rfl)
theorem dX0_restore_105 : decode cX0_restore 105 = .ok (.iload_n 1, 1) := dk_27 (dk_at dksX0_restore_4 15 rfl rfl)
theorem dX0_restore_106 : decode cX0_restore 106 = .ok (.aload_n 0, 1) := dk_42 (dk_at dksX0_restore_4 16 rfl rfl)
theorem dX0_restore_107 : decode cX0_restore 107 = .ok (.getfield 51, 3) := dk_180 0 51 (dk_at dksX0_restore_4 17 rfl rfl)
theorem dX0_restore_110 : decode cX0_restore 110 = .ok (.iload_n 1, 1) := dk_27 (dk_at dksX0_restore_4 20 rfl rfl)
theorem dX0_restore_111 : decode cX0_restore 111 = .ok (.iaload, 1) := dk_46 (dk_at dksX0_restore_4 21 rfl rfl)
theorem dX0_restore_112 : decode cX0_restore 112 = .ok (.iastore, 1) := dk_79 (dk_at dksX0_restore_4 22 rfl rfl)
theorem dX0_restore_113 : decode cX0_restore 113 = .ok (.aload_n 0, 1) := dk_42 (dk_at dksX0_restore_4 23 rfl rfl)
theorem dX0_restore_114 : decode cX0_restore 114 = .ok (.getfield 34, 3) := dk_180 0 34 (dk_at dksX0_restore_5 0 rfl rfl)
theorem dX0_restore_117 : decode cX0_restore 117 = .ok (.iload_n 1, 1) := dk_27 (dk_at dksX0_restore_5 3 rfl rfl)
theorem dX0_restore_118 : decode cX0_restore 118 = .ok (.aload_n 0, 1) := dk_42 (dk_at dksX0_restore_5 4 rfl rfl)
theorem dX0_restore_119 : decode cX0_restore 119 = .ok (.getfield 54, 3) := dk_180 0 54 (dk_at dksX0_restore_5 5 rfl rfl)
theorem dX0_restore_122 : decode cX0_restore 122 = .ok (.iload_n 1, 1) := dk_27 (dk_at dksX0_restore_5 8 rfl rfl)
theorem dX0_restore_123 : decode cX0_restore 123 = .ok (.baload, 1) := dk_51 (dk_at dksX0_restore_5 9 rfl rfl)
theorem dX0_restore_124 : decode cX0_restore 124 = .ok (.bastore, 1) := dk_84 (dk_at dksX0_restore_5 10 rfl rfl)
theorem dX0_restore_125 : decode cX0_restore 125 = .ok (.iinc 1 1, 3) := dk_132 1 1 (dk_at dksX0_restore_5 11 rfl rfl)
theorem dX0_restore_128 : decode cX0_restore 128 = .ok (.goto (-45), 3) := dk_167 255 211 (dk_at dksX0_restore_5 14 rfl rfl)
theorem dX0_restore_131 : decode cX0_restore 131 = .ok (.aload_n 0, 1) := dk_42 (dk_at dksX0_restore_5 17 rfl rfl)
theorem dX0_restore_132 : decode cX0_restore 132 = .ok (.getfield 16, 3) := dk_180 0 16 (dk_at dksX0_restore_5 18 rfl rfl)
theorem dX0_restore_135 : decode cX0_restore 135 = .ok (.getfield 167, 3) := dk_180 0 167 (dk_at dksX0_restore_5 21 rfl rfl)
theorem dX0_restore_138 : decode cX0_restore 138 = .ok (.ireturn, 1) := dk_172 (dk_at dksX0_restore_6 0 rfl rfl)
abbrev cX0_count : ByteArray := prog_1_method_55_code
def yX0_count : MethodName := ⟨RX0, "count", "(I)I"⟩
def dkwX0_count_0 : List UInt8 := [42, 27, 182, 1, 100, 172]
abbrev dktX0_count_0 : List UInt8 := dkwX0_count_0 ++ []
theorem dksX0_count_0 : cX0_count.data.toList.drop 0 = dktX0_count_0 := by decide +kernel
theorem dX0_count_0 : decode cX0_count 0 = .ok (.aload_n 0, 1) := dk_42 (dk_at dksX0_count_0 0 rfl rfl)
theorem dX0_count_1 : decode cX0_count 1 = .ok (.iload_n 1, 1) := dk_27 (dk_at dksX0_count_0 1 rfl rfl)
theorem dX0_count_2 : decode cX0_count 2 = .ok (.invokevirtual 356, 3) := dk_182 1 100 (dk_at dksX0_count_0 2 rfl rfl)
theorem dX0_count_5 : decode cX0_count 5 = .ok (.ireturn, 1) := dk_172 (dk_at dksX0_count_0 5 rfl rfl)
abbrev cX0_countOf : ByteArray := prog_1_method_54_code
def yX0_countOf : MethodName := ⟨RX0, "countOf", "(I)I"⟩
def dkwX0_countOf_4 : List UInt8 := [180, 0, 111, 172, 16, 154, 172]
abbrev dktX0_countOf_4 : List UInt8 := dkwX0_countOf_4 ++ []
def dkwX0_countOf_3 : List UInt8 := [42, 180, 0, 16, 180, 1, 24, 172, 42, 180, 0, 144, 172, 42, 180, 0, 164, 172, 42, 180, 0, 114, 172, 42]
abbrev dktX0_countOf_3 : List UInt8 := dkwX0_countOf_3 ++ dktX0_countOf_4
def dkwX0_countOf_2 : List UInt8 := [42, 180, 0, 16, 180, 0, 167, 172, 42, 180, 0, 16, 180, 1, 98, 172, 42, 180, 0, 16, 180, 1, 99, 172]
abbrev dktX0_countOf_2 : List UInt8 := dkwX0_countOf_2 ++ dktX0_countOf_3
def dkwX0_countOf_1 : List UInt8 := [170, 0, 0, 0, 0, 0, 99, 0, 0, 0, 0, 0, 0, 0, 7, 0, 0, 0, 47, 0, 0, 0, 55, 0, 0, 0, 63, 0, 0, 0, 71, 0, 0, 0, 79, 0, 0, 0, 84, 0, 0, 0, 89, 0, 0, 0, 94]
abbrev dktX0_countOf_1 : List UInt8 := dkwX0_countOf_1 ++ dktX0_countOf_2
def dkwX0_countOf_0 : List UInt8 := [27]
abbrev dktX0_countOf_0 : List UInt8 := dkwX0_countOf_0 ++ dktX0_countOf_1
theorem dksX0_countOf_0 : cX0_countOf.data.toList.drop 0 = dktX0_countOf_0 := by decide +kernel
theorem dksX0_countOf_1 : cX0_countOf.data.toList.drop 1 = dktX0_countOf_1 := dk_seg dksX0_countOf_0 1 rfl rfl
theorem dksX0_countOf_2 : cX0_countOf.data.toList.drop 48 = dktX0_countOf_2 := dk_seg dksX0_countOf_1 47 rfl rfl
theorem dksX0_countOf_3 : cX0_countOf.data.toList.drop 72 = dktX0_countOf_3 := dk_seg dksX0_countOf_2 24 rfl rfl
theorem dksX0_countOf_4 : cX0_countOf.data.toList.drop 96 = dktX0_countOf_4 := dk_seg dksX0_countOf_3 24 rfl rfl
theorem dX0_countOf_0 : decode cX0_countOf 0 = .ok (.iload_n 1, 1) := dk_27 (dk_at dksX0_countOf_0 0 rfl rfl)
theorem dX0_countOf_1 : decode cX0_countOf 1 = .ok (.tableswitch 99 0 7 #[47, 55, 63, 71, 79, 84, 89, 94], 47) := by decide +kernel
theorem dX0_countOf_48 : decode cX0_countOf 48 = .ok (.aload_n 0, 1) := dk_42 (dk_at dksX0_countOf_2 0 rfl rfl)
theorem dX0_countOf_49 : decode cX0_countOf 49 = .ok (.getfield 16, 3) := dk_180 0 16 (dk_at dksX0_countOf_2 1 rfl rfl)
theorem dX0_countOf_52 : decode cX0_countOf 52 = .ok (.getfield 167, 3) := dk_180 0 167 (dk_at dksX0_countOf_2 4 rfl rfl)
theorem dX0_countOf_55 : decode cX0_countOf 55 = .ok (.ireturn, 1) := dk_172 (dk_at dksX0_countOf_2 7 rfl rfl)
theorem dX0_countOf_56 : decode cX0_countOf 56 = .ok (.aload_n 0, 1) := dk_42 (dk_at dksX0_countOf_2 8 rfl rfl)
theorem dX0_countOf_57 : decode cX0_countOf 57 = .ok (.getfield 16, 3) := dk_180 0 16 (dk_at dksX0_countOf_2 9 rfl rfl)
theorem dX0_countOf_60 : decode cX0_countOf 60 = .ok (.getfield 354, 3) := dk_180 1 98 (dk_at dksX0_countOf_2 12 rfl rfl)
theorem dX0_countOf_63 : decode cX0_countOf 63 = .ok (.ireturn, 1) := dk_172 (dk_at dksX0_countOf_2 15 rfl rfl)
theorem dX0_countOf_64 : decode cX0_countOf 64 = .ok (.aload_n 0, 1) := dk_42 (dk_at dksX0_countOf_2 16 rfl rfl)
theorem dX0_countOf_65 : decode cX0_countOf 65 = .ok (.getfield 16, 3) := dk_180 0 16 (dk_at dksX0_countOf_2 17 rfl rfl)
theorem dX0_countOf_68 : decode cX0_countOf 68 = .ok (.getfield 355, 3) := dk_180 1 99 (dk_at dksX0_countOf_2 20 rfl rfl)
theorem dX0_countOf_71 : decode cX0_countOf 71 = .ok (.ireturn, 1) := dk_172 (dk_at dksX0_countOf_2 23 rfl rfl)
theorem dX0_countOf_72 : decode cX0_countOf 72 = .ok (.aload_n 0, 1) := dk_42 (dk_at dksX0_countOf_3 0 rfl rfl)
theorem dX0_countOf_73 : decode cX0_countOf 73 = .ok (.getfield 16, 3) := dk_180 0 16 (dk_at dksX0_countOf_3 1 rfl rfl)
theorem dX0_countOf_76 : decode cX0_countOf 76 = .ok (.getfield 280, 3) := dk_180 1 24 (dk_at dksX0_countOf_3 4 rfl rfl)
theorem dX0_countOf_79 : decode cX0_countOf 79 = .ok (.ireturn, 1) := dk_172 (dk_at dksX0_countOf_3 7 rfl rfl)
theorem dX0_countOf_80 : decode cX0_countOf 80 = .ok (.aload_n 0, 1) := dk_42 (dk_at dksX0_countOf_3 8 rfl rfl)
theorem dX0_countOf_81 : decode cX0_countOf 81 = .ok (.getfield 144, 3) := dk_180 0 144 (dk_at dksX0_countOf_3 9 rfl rfl)
theorem dX0_countOf_84 : decode cX0_countOf 84 = .ok (.ireturn, 1) := dk_172 (dk_at dksX0_countOf_3 12 rfl rfl)
theorem dX0_countOf_85 : decode cX0_countOf 85 = .ok (.aload_n 0, 1) := dk_42 (dk_at dksX0_countOf_3 13 rfl rfl)
theorem dX0_countOf_86 : decode cX0_countOf 86 = .ok (.getfield 164, 3) := dk_180 0 164 (dk_at dksX0_countOf_3 14 rfl rfl)
theorem dX0_countOf_89 : decode cX0_countOf 89 = .ok (.ireturn, 1) := dk_172 (dk_at dksX0_countOf_3 17 rfl rfl)
theorem dX0_countOf_90 : decode cX0_countOf 90 = .ok (.aload_n 0, 1) := dk_42 (dk_at dksX0_countOf_3 18 rfl rfl)
theorem dX0_countOf_91 : decode cX0_countOf 91 = .ok (.getfield 114, 3) := dk_180 0 114 (dk_at dksX0_countOf_3 19 rfl rfl)
theorem dX0_countOf_94 : decode cX0_countOf 94 = .ok (.ireturn, 1) := dk_172 (dk_at dksX0_countOf_3 22 rfl rfl)
theorem dX0_countOf_95 : decode cX0_countOf 95 = .ok (.aload_n 0, 1) := dk_42 (dk_at dksX0_countOf_3 23 rfl rfl)
theorem dX0_countOf_96 : decode cX0_countOf 96 = .ok (.getfield 111, 3) := dk_180 0 111 (dk_at dksX0_countOf_4 0 rfl rfl)
theorem dX0_countOf_99 : decode cX0_countOf 99 = .ok (.ireturn, 1) := dk_172 (dk_at dksX0_countOf_4 3 rfl rfl)
theorem dX0_countOf_100 : decode cX0_countOf 100 = .ok (.bipush (-102), 2) := dk_16 154 (dk_at dksX0_countOf_4 4 rfl rfl)
theorem dX0_countOf_102 : decode cX0_countOf 102 = .ok (.ireturn, 1) := dk_172 (dk_at dksX0_countOf_4 6 rfl rfl)
abbrev cX0_digest : ByteArray := prog_1_method_59_code
def yX0_digest : MethodName := ⟨RX0, "digest", "()J"⟩
def dkwX0_digest_4 : List UInt8 := [132, 3, 1, 167, 255, 236, 31, 173]
abbrev dktX0_digest_4 : List UInt8 := dkwX0_digest_4 ++ []
def dkwX0_digest_3 : List UInt8 := [167, 255, 233, 3, 62, 29, 16, 8, 162, 0, 20, 31, 42, 29, 182, 1, 100, 133, 184, 1, 105, 64]
abbrev dktX0_digest_3 : List UInt8 := dkwX0_digest_3 ++ dktX0_digest_4
def dkwX0_digest_2 : List UInt8 := [62, 29, 42, 180, 0, 114, 162, 0, 21, 31, 42, 180, 0, 20, 29, 51, 133, 184, 1, 105, 64, 132, 3, 1]
abbrev dktX0_digest_2 : List UInt8 := dkwX0_digest_2 ++ dktX0_digest_3
def dkwX0_digest_1 : List UInt8 := [64, 31, 42, 16, 7, 182, 1, 53, 133, 184, 1, 105, 42, 16, 7, 182, 1, 65, 133, 184, 1, 105, 64, 3]
abbrev dktX0_digest_1 : List UInt8 := dkwX0_digest_1 ++ dktX0_digest_2
def dkwX0_digest_0 : List UInt8 := [42, 20, 1, 111, 182, 1, 113, 64, 42, 182, 0, 205, 153, 0, 11, 42, 31, 182, 1, 117, 167, 0, 4, 31]
abbrev dktX0_digest_0 : List UInt8 := dkwX0_digest_0 ++ dktX0_digest_1
theorem dksX0_digest_0 : cX0_digest.data.toList.drop 0 = dktX0_digest_0 := by decide +kernel
theorem dksX0_digest_1 : cX0_digest.data.toList.drop 24 = dktX0_digest_1 := dk_seg dksX0_digest_0 24 rfl rfl
theorem dksX0_digest_2 : cX0_digest.data.toList.drop 48 = dktX0_digest_2 := dk_seg dksX0_digest_1 24 rfl rfl
theorem dksX0_digest_3 : cX0_digest.data.toList.drop 72 = dktX0_digest_3 := dk_seg dksX0_digest_2 24 rfl rfl
theorem dksX0_digest_4 : cX0_digest.data.toList.drop 94 = dktX0_digest_4 := dk_seg dksX0_digest_3 22 rfl rfl
theorem dX0_digest_0 : decode cX0_digest 0 = .ok (.aload_n 0, 1) := dk_42 (dk_at dksX0_digest_0 0 rfl rfl)
theorem dX0_digest_1 : decode cX0_digest 1 = .ok (.ldc2_w 367, 3) := dk_20 1 111 (dk_at dksX0_digest_0 1 rfl rfl)
theorem dX0_digest_4 : decode cX0_digest 4 = .ok (.invokevirtual 369, 3) := dk_182 1 113 (dk_at dksX0_digest_0 4 rfl rfl)
theorem dX0_digest_7 : decode cX0_digest 7 = .ok (.lstore_n 1, 1) := dk_64 (dk_at dksX0_digest_0 7 rfl rfl)
theorem dX0_digest_8 : decode cX0_digest 8 = .ok (.aload_n 0, 1) := dk_42 (dk_at dksX0_digest_0 8 rfl rfl)
theorem dX0_digest_9 : decode cX0_digest 9 = .ok (.invokevirtual 205, 3) := dk_182 0 205 (dk_at dksX0_digest_0 9 rfl rfl)
theorem dX0_digest_12 : decode cX0_digest 12 = .ok (.ifCond .eq 11, 3) := dk_153 0 11 (dk_at dksX0_digest_0 12 rfl rfl)
theorem dX0_digest_15 : decode cX0_digest 15 = .ok (.aload_n 0, 1) := dk_42 (dk_at dksX0_digest_0 15 rfl rfl)
theorem dX0_digest_16 : decode cX0_digest 16 = .ok (.lload_n 1, 1) := dk_31 (dk_at dksX0_digest_0 16 rfl rfl)
theorem dX0_digest_17 : decode cX0_digest 17 = .ok (.invokevirtual 373, 3) := dk_182 1 117 (dk_at dksX0_digest_0 17 rfl rfl)
theorem dX0_digest_20 : decode cX0_digest 20 = .ok (.goto 4, 3) := dk_167 0 4 (dk_at dksX0_digest_0 20 rfl rfl)
theorem dX0_digest_23 : decode cX0_digest 23 = .ok (.lload_n 1, 1) := dk_31 (dk_at dksX0_digest_0 23 rfl rfl)
theorem dX0_digest_24 : decode cX0_digest 24 = .ok (.lstore_n 1, 1) := dk_64 (dk_at dksX0_digest_1 0 rfl rfl)
theorem dX0_digest_25 : decode cX0_digest 25 = .ok (.lload_n 1, 1) := dk_31 (dk_at dksX0_digest_1 1 rfl rfl)
theorem dX0_digest_26 : decode cX0_digest 26 = .ok (.aload_n 0, 1) := dk_42 (dk_at dksX0_digest_1 2 rfl rfl)
theorem dX0_digest_27 : decode cX0_digest 27 = .ok (.bipush 7, 2) := dk_16 7 (dk_at dksX0_digest_1 3 rfl rfl)
theorem dX0_digest_29 : decode cX0_digest 29 = .ok (.invokevirtual 309, 3) := dk_182 1 53 (dk_at dksX0_digest_1 5 rfl rfl)
theorem dX0_digest_32 : decode cX0_digest 32 = .ok (.i2l, 1) := dk_133 (dk_at dksX0_digest_1 8 rfl rfl)
theorem dX0_digest_33 : decode cX0_digest 33 = .ok (.invokestatic 361, 3) := dk_184 1 105 (dk_at dksX0_digest_1 9 rfl rfl)
theorem dX0_digest_36 : decode cX0_digest 36 = .ok (.aload_n 0, 1) := dk_42 (dk_at dksX0_digest_1 12 rfl rfl)
theorem dX0_digest_37 : decode cX0_digest 37 = .ok (.bipush 7, 2) := dk_16 7 (dk_at dksX0_digest_1 13 rfl rfl)
theorem dX0_digest_39 : decode cX0_digest 39 = .ok (.invokevirtual 321, 3) := dk_182 1 65 (dk_at dksX0_digest_1 15 rfl rfl)
theorem dX0_digest_42 : decode cX0_digest 42 = .ok (.i2l, 1) := dk_133 (dk_at dksX0_digest_1 18 rfl rfl)
theorem dX0_digest_43 : decode cX0_digest 43 = .ok (.invokestatic 361, 3) := dk_184 1 105 (dk_at dksX0_digest_1 19 rfl rfl)
theorem dX0_digest_46 : decode cX0_digest 46 = .ok (.lstore_n 1, 1) := dk_64 (dk_at dksX0_digest_1 22 rfl rfl)
theorem dX0_digest_47 : decode cX0_digest 47 = .ok (.iconst 0, 1) := dk_3 (dk_at dksX0_digest_1 23 rfl rfl)
theorem dX0_digest_48 : decode cX0_digest 48 = .ok (.istore_n 3, 1) := dk_62 (dk_at dksX0_digest_2 0 rfl rfl)
theorem dX0_digest_49 : decode cX0_digest 49 = .ok (.iload_n 3, 1) := dk_29 (dk_at dksX0_digest_2 1 rfl rfl)
theorem dX0_digest_50 : decode cX0_digest 50 = .ok (.aload_n 0, 1) := dk_42 (dk_at dksX0_digest_2 2 rfl rfl)
theorem dX0_digest_51 : decode cX0_digest 51 = .ok (.getfield 114, 3) := dk_180 0 114 (dk_at dksX0_digest_2 3 rfl rfl)
theorem dX0_digest_54 : decode cX0_digest 54 = .ok (.if_icmp .ge 21, 3) := dk_162 0 21 (dk_at dksX0_digest_2 6 rfl rfl)
theorem dX0_digest_57 : decode cX0_digest 57 = .ok (.lload_n 1, 1) := dk_31 (dk_at dksX0_digest_2 9 rfl rfl)
theorem dX0_digest_58 : decode cX0_digest 58 = .ok (.aload_n 0, 1) := dk_42 (dk_at dksX0_digest_2 10 rfl rfl)
theorem dX0_digest_59 : decode cX0_digest 59 = .ok (.getfield 20, 3) := dk_180 0 20 (dk_at dksX0_digest_2 11 rfl rfl)
theorem dX0_digest_62 : decode cX0_digest 62 = .ok (.iload_n 3, 1) := dk_29 (dk_at dksX0_digest_2 14 rfl rfl)
theorem dX0_digest_63 : decode cX0_digest 63 = .ok (.baload, 1) := dk_51 (dk_at dksX0_digest_2 15 rfl rfl)
theorem dX0_digest_64 : decode cX0_digest 64 = .ok (.i2l, 1) := dk_133 (dk_at dksX0_digest_2 16 rfl rfl)
theorem dX0_digest_65 : decode cX0_digest 65 = .ok (.invokestatic 361, 3) := dk_184 1 105 (dk_at dksX0_digest_2 17 rfl rfl)
theorem dX0_digest_68 : decode cX0_digest 68 = .ok (.lstore_n 1, 1) := dk_64 (dk_at dksX0_digest_2 20 rfl rfl)
theorem dX0_digest_69 : decode cX0_digest 69 = .ok (.iinc 3 1, 3) := dk_132 3 1 (dk_at dksX0_digest_2 21 rfl rfl)
theorem dX0_digest_72 : decode cX0_digest 72 = .ok (.goto (-23), 3) := dk_167 255 233 (dk_at dksX0_digest_3 0 rfl rfl)
theorem dX0_digest_75 : decode cX0_digest 75 = .ok (.iconst 0, 1) := dk_3 (dk_at dksX0_digest_3 3 rfl rfl)
theorem dX0_digest_76 : decode cX0_digest 76 = .ok (.istore_n 3, 1) := dk_62 (dk_at dksX0_digest_3 4 rfl rfl)
theorem dX0_digest_77 : decode cX0_digest 77 = .ok (.iload_n 3, 1) := dk_29 (dk_at dksX0_digest_3 5 rfl rfl)
theorem dX0_digest_78 : decode cX0_digest 78 = .ok (.bipush 8, 2) := dk_16 8 (dk_at dksX0_digest_3 6 rfl rfl)
theorem dX0_digest_80 : decode cX0_digest 80 = .ok (.if_icmp .ge 20, 3) := dk_162 0 20 (dk_at dksX0_digest_3 8 rfl rfl)
theorem dX0_digest_83 : decode cX0_digest 83 = .ok (.lload_n 1, 1) := dk_31 (dk_at dksX0_digest_3 11 rfl rfl)
theorem dX0_digest_84 : decode cX0_digest 84 = .ok (.aload_n 0, 1) := dk_42 (dk_at dksX0_digest_3 12 rfl rfl)
theorem dX0_digest_85 : decode cX0_digest 85 = .ok (.iload_n 3, 1) := dk_29 (dk_at dksX0_digest_3 13 rfl rfl)
theorem dX0_digest_86 : decode cX0_digest 86 = .ok (.invokevirtual 356, 3) := dk_182 1 100 (dk_at dksX0_digest_3 14 rfl rfl)
theorem dX0_digest_89 : decode cX0_digest 89 = .ok (.i2l, 1) := dk_133 (dk_at dksX0_digest_3 17 rfl rfl)
theorem dX0_digest_90 : decode cX0_digest 90 = .ok (.invokestatic 361, 3) := dk_184 1 105 (dk_at dksX0_digest_3 18 rfl rfl)
theorem dX0_digest_93 : decode cX0_digest 93 = .ok (.lstore_n 1, 1) := dk_64 (dk_at dksX0_digest_3 21 rfl rfl)
theorem dX0_digest_94 : decode cX0_digest 94 = .ok (.iinc 3 1, 3) := dk_132 3 1 (dk_at dksX0_digest_4 0 rfl rfl)
theorem dX0_digest_97 : decode cX0_digest 97 = .ok (.goto (-20), 3) := dk_167 255 236 (dk_at dksX0_digest_4 3 rfl rfl)
theorem dX0_digest_100 : decode cX0_digest 100 = .ok (.lload_n 1, 1) := dk_31 (dk_at dksX0_digest_4 6 rfl rfl)
theorem dX0_digest_101 : decode cX0_digest 101 = .ok (.lreturn, 1) := dk_173 (dk_at dksX0_digest_4 7 rfl rfl)
abbrev cX0_mixedEntries : ByteArray := prog_1_method_57_code
def yX0_mixedEntries : MethodName := ⟨RX0, "mixedEntries", "(J)J"⟩
def dkwX0_mixedEntries_3 : List UInt8 := [167, 255, 197, 33, 173]
abbrev dktX0_mixedEntries_3 : List UInt8 := dkwX0_mixedEntries_3 ++ []
def dkwX0_mixedEntries_2 : List UInt8 := [182, 0, 191, 133, 184, 1, 105, 66, 132, 6, 1, 167, 255, 225, 42, 21, 5, 182, 0, 198, 54, 5]
abbrev dktX0_mixedEntries_2 : List UInt8 := dkwX0_mixedEntries_2 ++ dktX0_mixedEntries_3
def dkwX0_mixedEntries_1 : List UInt8 := [54, 6, 21, 6, 16, 7, 162, 0, 30, 33, 42, 42, 180, 0, 16, 21, 5, 182, 0, 188, 21, 6]
abbrev dktX0_mixedEntries_1 : List UInt8 := dkwX0_mixedEntries_1 ++ dktX0_mixedEntries_2
def dkwX0_mixedEntries_0 : List UInt8 := [31, 66, 42, 2, 182, 0, 198, 54, 5, 21, 5, 2, 159, 0, 59, 33, 21, 5, 133, 184, 1, 105, 66, 3]
abbrev dktX0_mixedEntries_0 : List UInt8 := dkwX0_mixedEntries_0 ++ dktX0_mixedEntries_1
theorem dksX0_mixedEntries_0 : cX0_mixedEntries.data.toList.drop 0 = dktX0_mixedEntries_0 := by decide +kernel
theorem dksX0_mixedEntries_1 : cX0_mixedEntries.data.toList.drop 24 = dktX0_mixedEntries_1 := dk_seg dksX0_mixedEntries_0 24 rfl rfl
theorem dksX0_mixedEntries_2 : cX0_mixedEntries.data.toList.drop 46 = dktX0_mixedEntries_2 := dk_seg dksX0_mixedEntries_1 22 rfl rfl
theorem dksX0_mixedEntries_3 : cX0_mixedEntries.data.toList.drop 68 = dktX0_mixedEntries_3 := dk_seg dksX0_mixedEntries_2 22 rfl rfl
theorem dX0_mixedEntries_0 : decode cX0_mixedEntries 0 = .ok (.lload_n 1, 1) := dk_31 (dk_at dksX0_mixedEntries_0 0 rfl rfl)
theorem dX0_mixedEntries_1 : decode cX0_mixedEntries 1 = .ok (.lstore_n 3, 1) := dk_66 (dk_at dksX0_mixedEntries_0 1 rfl rfl)
theorem dX0_mixedEntries_2 : decode cX0_mixedEntries 2 = .ok (.aload_n 0, 1) := dk_42 (dk_at dksX0_mixedEntries_0 2 rfl rfl)
theorem dX0_mixedEntries_3 : decode cX0_mixedEntries 3 = .ok (.iconst (-1), 1) := dk_2 (dk_at dksX0_mixedEntries_0 3 rfl rfl)
theorem dX0_mixedEntries_4 : decode cX0_mixedEntries 4 = .ok (.invokevirtual 198, 3) := dk_182 0 198 (dk_at dksX0_mixedEntries_0 4 rfl rfl)
theorem dX0_mixedEntries_7 : decode cX0_mixedEntries 7 = .ok (.istore 5, 2) := dk_54 5 (dk_at dksX0_mixedEntries_0 7 rfl rfl)
theorem dX0_mixedEntries_9 : decode cX0_mixedEntries 9 = .ok (.iload 5, 2) := dk_21 5 (dk_at dksX0_mixedEntries_0 9 rfl rfl)
theorem dX0_mixedEntries_11 : decode cX0_mixedEntries 11 = .ok (.iconst (-1), 1) := dk_2 (dk_at dksX0_mixedEntries_0 11 rfl rfl)
theorem dX0_mixedEntries_12 : decode cX0_mixedEntries 12 = .ok (.if_icmp .eq 59, 3) := dk_159 0 59 (dk_at dksX0_mixedEntries_0 12 rfl rfl)
theorem dX0_mixedEntries_15 : decode cX0_mixedEntries 15 = .ok (.lload_n 3, 1) := dk_33 (dk_at dksX0_mixedEntries_0 15 rfl rfl)
theorem dX0_mixedEntries_16 : decode cX0_mixedEntries 16 = .ok (.iload 5, 2) := dk_21 5 (dk_at dksX0_mixedEntries_0 16 rfl rfl)
theorem dX0_mixedEntries_18 : decode cX0_mixedEntries 18 = .ok (.i2l, 1) := dk_133 (dk_at dksX0_mixedEntries_0 18 rfl rfl)
theorem dX0_mixedEntries_19 : decode cX0_mixedEntries 19 = .ok (.invokestatic 361, 3) := dk_184 1 105 (dk_at dksX0_mixedEntries_0 19 rfl rfl)
theorem dX0_mixedEntries_22 : decode cX0_mixedEntries 22 = .ok (.lstore_n 3, 1) := dk_66 (dk_at dksX0_mixedEntries_0 22 rfl rfl)
theorem dX0_mixedEntries_23 : decode cX0_mixedEntries 23 = .ok (.iconst 0, 1) := dk_3 (dk_at dksX0_mixedEntries_0 23 rfl rfl)
theorem dX0_mixedEntries_24 : decode cX0_mixedEntries 24 = .ok (.istore 6, 2) := dk_54 6 (dk_at dksX0_mixedEntries_1 0 rfl rfl)
theorem dX0_mixedEntries_26 : decode cX0_mixedEntries 26 = .ok (.iload 6, 2) := dk_21 6 (dk_at dksX0_mixedEntries_1 2 rfl rfl)
theorem dX0_mixedEntries_28 : decode cX0_mixedEntries 28 = .ok (.bipush 7, 2) := dk_16 7 (dk_at dksX0_mixedEntries_1 4 rfl rfl)
theorem dX0_mixedEntries_30 : decode cX0_mixedEntries 30 = .ok (.if_icmp .ge 30, 3) := dk_162 0 30 (dk_at dksX0_mixedEntries_1 6 rfl rfl)
theorem dX0_mixedEntries_33 : decode cX0_mixedEntries 33 = .ok (.lload_n 3, 1) := dk_33 (dk_at dksX0_mixedEntries_1 9 rfl rfl)
theorem dX0_mixedEntries_34 : decode cX0_mixedEntries 34 = .ok (.aload_n 0, 1) := dk_42 (dk_at dksX0_mixedEntries_1 10 rfl rfl)
theorem dX0_mixedEntries_35 : decode cX0_mixedEntries 35 = .ok (.aload_n 0, 1) := dk_42 (dk_at dksX0_mixedEntries_1 11 rfl rfl)
theorem dX0_mixedEntries_36 : decode cX0_mixedEntries 36 = .ok (.getfield 16, 3) := dk_180 0 16 (dk_at dksX0_mixedEntries_1 12 rfl rfl)
theorem dX0_mixedEntries_39 : decode cX0_mixedEntries 39 = .ok (.iload 5, 2) := dk_21 5 (dk_at dksX0_mixedEntries_1 15 rfl rfl)
theorem dX0_mixedEntries_41 : decode cX0_mixedEntries 41 = .ok (.invokevirtual 188, 3) := dk_182 0 188 (dk_at dksX0_mixedEntries_1 17 rfl rfl)
theorem dX0_mixedEntries_44 : decode cX0_mixedEntries 44 = .ok (.iload 6, 2) := dk_21 6 (dk_at dksX0_mixedEntries_1 20 rfl rfl)
theorem dX0_mixedEntries_46 : decode cX0_mixedEntries 46 = .ok (.invokevirtual 191, 3) := dk_182 0 191 (dk_at dksX0_mixedEntries_2 0 rfl rfl)
theorem dX0_mixedEntries_49 : decode cX0_mixedEntries 49 = .ok (.i2l, 1) := dk_133 (dk_at dksX0_mixedEntries_2 3 rfl rfl)
theorem dX0_mixedEntries_50 : decode cX0_mixedEntries 50 = .ok (.invokestatic 361, 3) := dk_184 1 105 (dk_at dksX0_mixedEntries_2 4 rfl rfl)
theorem dX0_mixedEntries_53 : decode cX0_mixedEntries 53 = .ok (.lstore_n 3, 1) := dk_66 (dk_at dksX0_mixedEntries_2 7 rfl rfl)
theorem dX0_mixedEntries_54 : decode cX0_mixedEntries 54 = .ok (.iinc 6 1, 3) := dk_132 6 1 (dk_at dksX0_mixedEntries_2 8 rfl rfl)
theorem dX0_mixedEntries_57 : decode cX0_mixedEntries 57 = .ok (.goto (-31), 3) := dk_167 255 225 (dk_at dksX0_mixedEntries_2 11 rfl rfl)
theorem dX0_mixedEntries_60 : decode cX0_mixedEntries 60 = .ok (.aload_n 0, 1) := dk_42 (dk_at dksX0_mixedEntries_2 14 rfl rfl)
theorem dX0_mixedEntries_61 : decode cX0_mixedEntries 61 = .ok (.iload 5, 2) := dk_21 5 (dk_at dksX0_mixedEntries_2 15 rfl rfl)
theorem dX0_mixedEntries_63 : decode cX0_mixedEntries 63 = .ok (.invokevirtual 198, 3) := dk_182 0 198 (dk_at dksX0_mixedEntries_2 17 rfl rfl)
theorem dX0_mixedEntries_66 : decode cX0_mixedEntries 66 = .ok (.istore 5, 2) := dk_54 5 (dk_at dksX0_mixedEntries_2 20 rfl rfl)
theorem dX0_mixedEntries_68 : decode cX0_mixedEntries 68 = .ok (.goto (-59), 3) := dk_167 255 197 (dk_at dksX0_mixedEntries_3 0 rfl rfl)
theorem dX0_mixedEntries_71 : decode cX0_mixedEntries 71 = .ok (.lload_n 3, 1) := dk_33 (dk_at dksX0_mixedEntries_3 3 rfl rfl)
theorem dX0_mixedEntries_72 : decode cX0_mixedEntries 72 = .ok (.lreturn, 1) := dk_173 (dk_at dksX0_mixedEntries_3 4 rfl rfl)
abbrev cX0_mixed : ByteArray := prog_1_method_56_code
def yX0_mixed : MethodName := ⟨RX0, "mixed", "(JJ)J"⟩
def dkwX0_mixed_0 : List UInt8 := [20, 1, 103, 30, 105, 32, 97, 173]
abbrev dktX0_mixed_0 : List UInt8 := dkwX0_mixed_0 ++ []
theorem dksX0_mixed_0 : cX0_mixed.data.toList.drop 0 = dktX0_mixed_0 := by decide +kernel
theorem dX0_mixed_0 : decode cX0_mixed 0 = .ok (.ldc2_w 359, 3) := dk_20 1 103 (dk_at dksX0_mixed_0 0 rfl rfl)
theorem dX0_mixed_3 : decode cX0_mixed 3 = .ok (.lload_n 0, 1) := dk_30 (dk_at dksX0_mixed_0 3 rfl rfl)
theorem dX0_mixed_4 : decode cX0_mixed 4 = .ok (.lmul, 1) := dk_105 (dk_at dksX0_mixed_0 4 rfl rfl)
theorem dX0_mixed_5 : decode cX0_mixed 5 = .ok (.lload_n 2, 1) := dk_32 (dk_at dksX0_mixed_0 5 rfl rfl)
theorem dX0_mixed_6 : decode cX0_mixed 6 = .ok (.ladd, 1) := dk_97 (dk_at dksX0_mixed_0 6 rfl rfl)
theorem dX0_mixed_7 : decode cX0_mixed 7 = .ok (.lreturn, 1) := dk_173 (dk_at dksX0_mixed_0 7 rfl rfl)
abbrev cX0_mixedShelf : ByteArray := prog_1_method_58_code
def yX0_mixedShelf : MethodName := ⟨RX0, "mixedShelf", "(J)J"⟩
def dkwX0_mixedShelf_3 : List UInt8 := [5, 6, 3, 182, 1, 29, 133, 184, 1, 105, 42, 5, 6, 4, 182, 1, 29, 133, 184, 1, 105, 173]
abbrev dktX0_mixedShelf_3 : List UInt8 := dkwX0_mixedShelf_3 ++ []
def dkwX0_mixedShelf_2 : List UInt8 := [167, 0, 10, 42, 16, 50, 182, 1, 18, 133, 184, 1, 105, 42, 182, 1, 40, 133, 184, 1, 105, 66, 33, 42]
abbrev dktX0_mixedShelf_2 : List UInt8 := dkwX0_mixedShelf_2 ++ dktX0_mixedShelf_3
def dkwX0_mixedShelf_1 : List UInt8 := [132, 5, 1, 167, 255, 234, 33, 42, 180, 0, 16, 180, 0, 167, 16, 40, 160, 0, 9, 20, 1, 109]
abbrev dktX0_mixedShelf_1 : List UInt8 := dkwX0_mixedShelf_1 ++ dktX0_mixedShelf_2
def dkwX0_mixedShelf_0 : List UInt8 := [31, 66, 3, 54, 5, 21, 5, 16, 7, 162, 0, 21, 33, 42, 21, 5, 182, 1, 12, 133, 184, 1, 105, 66]
abbrev dktX0_mixedShelf_0 : List UInt8 := dkwX0_mixedShelf_0 ++ dktX0_mixedShelf_1
theorem dksX0_mixedShelf_0 : cX0_mixedShelf.data.toList.drop 0 = dktX0_mixedShelf_0 := by decide +kernel
theorem dksX0_mixedShelf_1 : cX0_mixedShelf.data.toList.drop 24 = dktX0_mixedShelf_1 := dk_seg dksX0_mixedShelf_0 24 rfl rfl
theorem dksX0_mixedShelf_2 : cX0_mixedShelf.data.toList.drop 46 = dktX0_mixedShelf_2 := dk_seg dksX0_mixedShelf_1 22 rfl rfl
theorem dksX0_mixedShelf_3 : cX0_mixedShelf.data.toList.drop 70 = dktX0_mixedShelf_3 := dk_seg dksX0_mixedShelf_2 24 rfl rfl
theorem dX0_mixedShelf_0 : decode cX0_mixedShelf 0 = .ok (.lload_n 1, 1) := dk_31 (dk_at dksX0_mixedShelf_0 0 rfl rfl)
theorem dX0_mixedShelf_1 : decode cX0_mixedShelf 1 = .ok (.lstore_n 3, 1) := dk_66 (dk_at dksX0_mixedShelf_0 1 rfl rfl)
theorem dX0_mixedShelf_2 : decode cX0_mixedShelf 2 = .ok (.iconst 0, 1) := dk_3 (dk_at dksX0_mixedShelf_0 2 rfl rfl)
theorem dX0_mixedShelf_3 : decode cX0_mixedShelf 3 = .ok (.istore 5, 2) := dk_54 5 (dk_at dksX0_mixedShelf_0 3 rfl rfl)
theorem dX0_mixedShelf_5 : decode cX0_mixedShelf 5 = .ok (.iload 5, 2) := dk_21 5 (dk_at dksX0_mixedShelf_0 5 rfl rfl)
theorem dX0_mixedShelf_7 : decode cX0_mixedShelf 7 = .ok (.bipush 7, 2) := dk_16 7 (dk_at dksX0_mixedShelf_0 7 rfl rfl)
theorem dX0_mixedShelf_9 : decode cX0_mixedShelf 9 = .ok (.if_icmp .ge 21, 3) := dk_162 0 21 (dk_at dksX0_mixedShelf_0 9 rfl rfl)
theorem dX0_mixedShelf_12 : decode cX0_mixedShelf 12 = .ok (.lload_n 3, 1) := dk_33 (dk_at dksX0_mixedShelf_0 12 rfl rfl)
theorem dX0_mixedShelf_13 : decode cX0_mixedShelf 13 = .ok (.aload_n 0, 1) := dk_42 (dk_at dksX0_mixedShelf_0 13 rfl rfl)
theorem dX0_mixedShelf_14 : decode cX0_mixedShelf 14 = .ok (.iload 5, 2) := dk_21 5 (dk_at dksX0_mixedShelf_0 14 rfl rfl)
theorem dX0_mixedShelf_16 : decode cX0_mixedShelf 16 = .ok (.invokevirtual 268, 3) := dk_182 1 12 (dk_at dksX0_mixedShelf_0 16 rfl rfl)
theorem dX0_mixedShelf_19 : decode cX0_mixedShelf 19 = .ok (.i2l, 1) := dk_133 (dk_at dksX0_mixedShelf_0 19 rfl rfl)
theorem dX0_mixedShelf_20 : decode cX0_mixedShelf 20 = .ok (.invokestatic 361, 3) := dk_184 1 105 (dk_at dksX0_mixedShelf_0 20 rfl rfl)
theorem dX0_mixedShelf_23 : decode cX0_mixedShelf 23 = .ok (.lstore_n 3, 1) := dk_66 (dk_at dksX0_mixedShelf_0 23 rfl rfl)
theorem dX0_mixedShelf_24 : decode cX0_mixedShelf 24 = .ok (.iinc 5 1, 3) := dk_132 5 1 (dk_at dksX0_mixedShelf_1 0 rfl rfl)
theorem dX0_mixedShelf_27 : decode cX0_mixedShelf 27 = .ok (.goto (-22), 3) := dk_167 255 234 (dk_at dksX0_mixedShelf_1 3 rfl rfl)
theorem dX0_mixedShelf_30 : decode cX0_mixedShelf 30 = .ok (.lload_n 3, 1) := dk_33 (dk_at dksX0_mixedShelf_1 6 rfl rfl)
theorem dX0_mixedShelf_31 : decode cX0_mixedShelf 31 = .ok (.aload_n 0, 1) := dk_42 (dk_at dksX0_mixedShelf_1 7 rfl rfl)
theorem dX0_mixedShelf_32 : decode cX0_mixedShelf 32 = .ok (.getfield 16, 3) := dk_180 0 16 (dk_at dksX0_mixedShelf_1 8 rfl rfl)
theorem dX0_mixedShelf_35 : decode cX0_mixedShelf 35 = .ok (.getfield 167, 3) := dk_180 0 167 (dk_at dksX0_mixedShelf_1 11 rfl rfl)
theorem dX0_mixedShelf_38 : decode cX0_mixedShelf 38 = .ok (.bipush 40, 2) := dk_16 40 (dk_at dksX0_mixedShelf_1 14 rfl rfl)
theorem dX0_mixedShelf_40 : decode cX0_mixedShelf 40 = .ok (.if_icmp .ne 9, 3) := dk_160 0 9 (dk_at dksX0_mixedShelf_1 16 rfl rfl)
theorem dX0_mixedShelf_43 : decode cX0_mixedShelf 43 = .ok (.ldc2_w 365, 3) := dk_20 1 109 (dk_at dksX0_mixedShelf_1 19 rfl rfl)
theorem dX0_mixedShelf_46 : decode cX0_mixedShelf 46 = .ok (.goto 10, 3) := dk_167 0 10 (dk_at dksX0_mixedShelf_2 0 rfl rfl)
theorem dX0_mixedShelf_49 : decode cX0_mixedShelf 49 = .ok (.aload_n 0, 1) := dk_42 (dk_at dksX0_mixedShelf_2 3 rfl rfl)
theorem dX0_mixedShelf_50 : decode cX0_mixedShelf 50 = .ok (.bipush 50, 2) := dk_16 50 (dk_at dksX0_mixedShelf_2 4 rfl rfl)
theorem dX0_mixedShelf_52 : decode cX0_mixedShelf 52 = .ok (.invokevirtual 274, 3) := dk_182 1 18 (dk_at dksX0_mixedShelf_2 6 rfl rfl)
theorem dX0_mixedShelf_55 : decode cX0_mixedShelf 55 = .ok (.i2l, 1) := dk_133 (dk_at dksX0_mixedShelf_2 9 rfl rfl)
theorem dX0_mixedShelf_56 : decode cX0_mixedShelf 56 = .ok (.invokestatic 361, 3) := dk_184 1 105 (dk_at dksX0_mixedShelf_2 10 rfl rfl)
theorem dX0_mixedShelf_59 : decode cX0_mixedShelf 59 = .ok (.aload_n 0, 1) := dk_42 (dk_at dksX0_mixedShelf_2 13 rfl rfl)
theorem dX0_mixedShelf_60 : decode cX0_mixedShelf 60 = .ok (.invokevirtual 296, 3) := dk_182 1 40 (dk_at dksX0_mixedShelf_2 14 rfl rfl)
theorem dX0_mixedShelf_63 : decode cX0_mixedShelf 63 = .ok (.i2l, 1) := dk_133 (dk_at dksX0_mixedShelf_2 17 rfl rfl)
theorem dX0_mixedShelf_64 : decode cX0_mixedShelf 64 = .ok (.invokestatic 361, 3) := dk_184 1 105 (dk_at dksX0_mixedShelf_2 18 rfl rfl)
theorem dX0_mixedShelf_67 : decode cX0_mixedShelf 67 = .ok (.lstore_n 3, 1) := dk_66 (dk_at dksX0_mixedShelf_2 21 rfl rfl)
theorem dX0_mixedShelf_68 : decode cX0_mixedShelf 68 = .ok (.lload_n 3, 1) := dk_33 (dk_at dksX0_mixedShelf_2 22 rfl rfl)
theorem dX0_mixedShelf_69 : decode cX0_mixedShelf 69 = .ok (.aload_n 0, 1) := dk_42 (dk_at dksX0_mixedShelf_2 23 rfl rfl)
theorem dX0_mixedShelf_70 : decode cX0_mixedShelf 70 = .ok (.iconst 2, 1) := dk_5 (dk_at dksX0_mixedShelf_3 0 rfl rfl)
theorem dX0_mixedShelf_71 : decode cX0_mixedShelf 71 = .ok (.iconst 3, 1) := dk_6 (dk_at dksX0_mixedShelf_3 1 rfl rfl)
theorem dX0_mixedShelf_72 : decode cX0_mixedShelf 72 = .ok (.iconst 0, 1) := dk_3 (dk_at dksX0_mixedShelf_3 2 rfl rfl)
theorem dX0_mixedShelf_73 : decode cX0_mixedShelf 73 = .ok (.invokevirtual 285, 3) := dk_182 1 29 (dk_at dksX0_mixedShelf_3 3 rfl rfl)
theorem dX0_mixedShelf_76 : decode cX0_mixedShelf 76 = .ok (.i2l, 1) := dk_133 (dk_at dksX0_mixedShelf_3 6 rfl rfl)
theorem dX0_mixedShelf_77 : decode cX0_mixedShelf 77 = .ok (.invokestatic 361, 3) := dk_184 1 105 (dk_at dksX0_mixedShelf_3 7 rfl rfl)
theorem dX0_mixedShelf_80 : decode cX0_mixedShelf 80 = .ok (.aload_n 0, 1) := dk_42 (dk_at dksX0_mixedShelf_3 10 rfl rfl)
theorem dX0_mixedShelf_81 : decode cX0_mixedShelf 81 = .ok (.iconst 2, 1) := dk_5 (dk_at dksX0_mixedShelf_3 11 rfl rfl)
theorem dX0_mixedShelf_82 : decode cX0_mixedShelf 82 = .ok (.iconst 3, 1) := dk_6 (dk_at dksX0_mixedShelf_3 12 rfl rfl)
theorem dX0_mixedShelf_83 : decode cX0_mixedShelf 83 = .ok (.iconst 1, 1) := dk_4 (dk_at dksX0_mixedShelf_3 13 rfl rfl)
theorem dX0_mixedShelf_84 : decode cX0_mixedShelf 84 = .ok (.invokevirtual 285, 3) := dk_182 1 29 (dk_at dksX0_mixedShelf_3 14 rfl rfl)
theorem dX0_mixedShelf_87 : decode cX0_mixedShelf 87 = .ok (.i2l, 1) := dk_133 (dk_at dksX0_mixedShelf_3 17 rfl rfl)
theorem dX0_mixedShelf_88 : decode cX0_mixedShelf 88 = .ok (.invokestatic 361, 3) := dk_184 1 105 (dk_at dksX0_mixedShelf_3 18 rfl rfl)
theorem dX0_mixedShelf_91 : decode cX0_mixedShelf 91 = .ok (.lreturn, 1) := dk_173 (dk_at dksX0_mixedShelf_3 21 rfl rfl)
theorem q82 : (Jvm.Cond.initialized "CreditShelf") ∈ lw_all := lw_g (lw_at lw_m1 1 rfl) rfl
theorem q105 : (Jvm.Cond.instantiable "CreditShelf" (20 : Nat)) ∈ lw_all := lw_g (lw_at lw_m1 24 rfl) rfl
theorem q107 : (Jvm.Cond.instanceMethod ({ cls := "CreditShelf", name := "<init>", desc := "()V" } : Jvm.MethodName)) ∈ lw_all := lw_g (lw_at lw_m1 26 rfl) rfl
theorem q108 : (Jvm.Cond.code ({ cls := "CreditShelf", name := "<init>", desc := "()V" } : Jvm.MethodName) prog_1_method_4_code (1 : Nat) (Option.none : Option Jvm.ClassFile.FieldType)) ∈ lw_all := lw_g (lw_at lw_m1 27 rfl) rfl
theorem q109 : (Jvm.Cond.methodLink "CreditShelf" (7 : Nat) ({ cls := "java/lang/Object", name := "<init>", desc := "()V" } : Jvm.MethodName)) ∈ lw_all := lw_g (lw_at lw_m1 28 rfl) rfl
theorem q112 : (Jvm.Cond.classLink "CreditShelf" (13 : Nat) "CreditShelf$Tree") ∈ lw_all := lw_g (lw_at lw_m1 31 rfl) rfl
theorem q114 : (Jvm.Cond.methodLinkNest "CreditShelf" (15 : Nat) ({ cls := "CreditShelf$Tree", name := "<init>", desc := "()V" } : Jvm.MethodName) "CreditShelf") ∈ lw_tbl := lw_at lw_m1 33 rfl
theorem q119 : (Jvm.Cond.fieldLinkNest "CreditShelf" (185 : Nat) "CreditShelf$Tree" "top" "LCreditShelf$Entry;" "CreditShelf") ∈ lw_tbl := lw_at lw_m1 38 rfl
theorem q121 : (Jvm.Cond.fieldLinkNest "CreditShelf" (354 : Nat) "CreditShelf$Tree" "a" "I" "CreditShelf") ∈ lw_tbl := lw_at lw_m1 40 rfl
theorem q123 : (Jvm.Cond.fieldLinkNest "CreditShelf" (355 : Nat) "CreditShelf$Tree" "b" "I" "CreditShelf") ∈ lw_tbl := lw_at lw_m1 42 rfl
theorem q125 : (Jvm.Cond.fieldLinkNest "CreditShelf" (280 : Nat) "CreditShelf$Tree" "fee" "I" "CreditShelf") ∈ lw_tbl := lw_at lw_m1 44 rfl
theorem q127 : (Jvm.Cond.fieldLinkNest "CreditShelf" (167 : Nat) "CreditShelf$Tree" "many" "I" "CreditShelf") ∈ lw_tbl := lw_at lw_m1 46 rfl
theorem q129 : (Jvm.Cond.fieldLinkNest "CreditShelf" (252 : Nat) "CreditShelf$Tree" "most" "I" "CreditShelf") ∈ lw_tbl := lw_at lw_m1 48 rfl
theorem q131 : (Jvm.Cond.fieldLinkNest "CreditShelf" (256 : Nat) "CreditShelf$Tree" "credit" "I" "CreditShelf") ∈ lw_tbl := lw_at lw_m1 50 rfl
theorem q133 : (Jvm.Cond.fieldLinkNest "CreditShelf" (259 : Nat) "CreditShelf$Tree" "lowest" "I" "CreditShelf") ∈ lw_tbl := lw_at lw_m1 52 rfl
theorem q135 : (Jvm.Cond.fieldLinkNest "CreditShelf" (262 : Nat) "CreditShelf$Tree" "buildings" "I" "CreditShelf") ∈ lw_tbl := lw_at lw_m1 54 rfl
theorem q137 : (Jvm.Cond.fieldLinkNest "CreditShelf" (265 : Nat) "CreditShelf$Tree" "cost" "I" "CreditShelf") ∈ lw_tbl := lw_at lw_m1 56 rfl
theorem q159 : (Jvm.Cond.classLink "CreditShelf" (38 : Nat) "java/util/ArrayList") ∈ lw_all := lw_g (lw_at lw_m1 78 rfl) rfl
theorem q161 : (Jvm.Cond.methodLink "CreditShelf" (40 : Nat) ({ cls := "java/util/ArrayList", name := "<init>", desc := "()V" } : Jvm.MethodName)) ∈ lw_all := lw_g (lw_at lw_m1 80 rfl) rfl
theorem q188 : (Jvm.Cond.fieldLink "CreditShelf" (16 : Nat) "CreditShelf" "tree" "LCreditShelf$Tree;") ∈ lw_all := lw_g (lw_at lw_m1 107 rfl) rfl
theorem q189 : (Jvm.Cond.fieldLink "CreditShelf" (111 : Nat) "CreditShelf" "shelves" "I") ∈ lw_all := lw_g (lw_at lw_m1 108 rfl) rfl
theorem q191 : (Jvm.Cond.fieldLink "CreditShelf" (20 : Nat) "CreditShelf" "page" "[B") ∈ lw_all := lw_g (lw_at lw_m1 110 rfl) rfl
theorem q193 : (Jvm.Cond.fieldLink "CreditShelf" (114 : Nat) "CreditShelf" "pageLength" "I") ∈ lw_all := lw_g (lw_at lw_m1 112 rfl) rfl
theorem q194 : (Jvm.Cond.fieldLink "CreditShelf" (24 : Nat) "CreditShelf" "log" "[I") ∈ lw_all := lw_g (lw_at lw_m1 113 rfl) rfl
theorem q195 : (Jvm.Cond.fieldLink "CreditShelf" (144 : Nat) "CreditShelf" "logged" "I") ∈ lw_all := lw_g (lw_at lw_m1 114 rfl) rfl
theorem q196 : (Jvm.Cond.fieldLink "CreditShelf" (164 : Nat) "CreditShelf" "seen" "I") ∈ lw_all := lw_g (lw_at lw_m1 115 rfl) rfl
theorem q197 : (Jvm.Cond.fieldLink "CreditShelf" (28 : Nat) "CreditShelf" "seenKey" "[I") ∈ lw_all := lw_g (lw_at lw_m1 116 rfl) rfl
theorem q198 : (Jvm.Cond.fieldLink "CreditShelf" (31 : Nat) "CreditShelf" "seenWhat" "[I") ∈ lw_all := lw_g (lw_at lw_m1 117 rfl) rfl
theorem q199 : (Jvm.Cond.fieldLink "CreditShelf" (34 : Nat) "CreditShelf" "seenCould" "[Z") ∈ lw_all := lw_g (lw_at lw_m1 118 rfl) rfl
theorem q200 : (Jvm.Cond.fieldLink "CreditShelf" (41 : Nat) "CreditShelf" "samples" "Ljava/util/ArrayList;") ∈ lw_all := lw_g (lw_at lw_m1 119 rfl) rfl
theorem q201 : (Jvm.Cond.fieldLink "CreditShelf" (326 : Nat) "CreditShelf" "drawn" "J") ∈ lw_all := lw_g (lw_at lw_m1 120 rfl) rfl
theorem q202 : (Jvm.Cond.fieldLink "CreditShelf" (342 : Nat) "CreditShelf" "kept" "LCreditShelf$Tree;") ∈ lw_all := lw_g (lw_at lw_m1 121 rfl) rfl
theorem q203 : (Jvm.Cond.fieldLink "CreditShelf" (345 : Nat) "CreditShelf" "keptShelf" "I") ∈ lw_all := lw_g (lw_at lw_m1 122 rfl) rfl
theorem q204 : (Jvm.Cond.fieldLink "CreditShelf" (348 : Nat) "CreditShelf" "keptLogged" "I") ∈ lw_all := lw_g (lw_at lw_m1 123 rfl) rfl
theorem q205 : (Jvm.Cond.fieldLink "CreditShelf" (351 : Nat) "CreditShelf" "keptSeen" "I") ∈ lw_all := lw_g (lw_at lw_m1 124 rfl) rfl
theorem q206 : (Jvm.Cond.fieldLink "CreditShelf" (45 : Nat) "CreditShelf" "keptLog" "[I") ∈ lw_all := lw_g (lw_at lw_m1 125 rfl) rfl
theorem q207 : (Jvm.Cond.fieldLink "CreditShelf" (48 : Nat) "CreditShelf" "keptKey" "[I") ∈ lw_all := lw_g (lw_at lw_m1 126 rfl) rfl
theorem q208 : (Jvm.Cond.fieldLink "CreditShelf" (51 : Nat) "CreditShelf" "keptWhat" "[I") ∈ lw_all := lw_g (lw_at lw_m1 127 rfl) rfl
theorem q209 : (Jvm.Cond.fieldLink "CreditShelf" (54 : Nat) "CreditShelf" "keptCould" "[Z") ∈ lw_all := lw_g (lw_at lw_m1 128 rfl) rfl
theorem q210 : (Jvm.Cond.lays "CreditShelf" "CreditShelf" "tree" "LCreditShelf$Tree;") ∈ lw_all := lw_g (lw_at lw_m1 129 rfl) rfl
theorem q211 : (Jvm.Cond.soleField "CreditShelf" "tree") ∈ lw_all := lw_g (lw_at lw_m1 130 rfl) rfl
theorem q212 : (Jvm.Cond.lays "CreditShelf" "CreditShelf" "shelves" "I") ∈ lw_all := lw_g (lw_at lw_m1 131 rfl) rfl
theorem q213 : (Jvm.Cond.soleField "CreditShelf" "shelves") ∈ lw_all := lw_g (lw_at lw_m1 132 rfl) rfl
theorem q214 : (Jvm.Cond.laysFinal "CreditShelf" "CreditShelf" "page" "[B") ∈ lw_all := lw_g (lw_at lw_m1 133 rfl) rfl
theorem q215 : (Jvm.Cond.soleField "CreditShelf" "page") ∈ lw_all := lw_g (lw_at lw_m1 134 rfl) rfl
theorem q216 : (Jvm.Cond.lays "CreditShelf" "CreditShelf" "pageLength" "I") ∈ lw_all := lw_g (lw_at lw_m1 135 rfl) rfl
theorem q217 : (Jvm.Cond.soleField "CreditShelf" "pageLength") ∈ lw_all := lw_g (lw_at lw_m1 136 rfl) rfl
theorem q218 : (Jvm.Cond.laysFinal "CreditShelf" "CreditShelf" "log" "[I") ∈ lw_all := lw_g (lw_at lw_m1 137 rfl) rfl
theorem q219 : (Jvm.Cond.soleField "CreditShelf" "log") ∈ lw_all := lw_g (lw_at lw_m1 138 rfl) rfl
theorem q220 : (Jvm.Cond.lays "CreditShelf" "CreditShelf" "logged" "I") ∈ lw_all := lw_g (lw_at lw_m1 139 rfl) rfl
theorem q221 : (Jvm.Cond.soleField "CreditShelf" "logged") ∈ lw_all := lw_g (lw_at lw_m1 140 rfl) rfl
theorem q222 : (Jvm.Cond.lays "CreditShelf" "CreditShelf" "seen" "I") ∈ lw_all := lw_g (lw_at lw_m1 141 rfl) rfl
theorem q223 : (Jvm.Cond.soleField "CreditShelf" "seen") ∈ lw_all := lw_g (lw_at lw_m1 142 rfl) rfl
theorem q224 : (Jvm.Cond.laysFinal "CreditShelf" "CreditShelf" "seenKey" "[I") ∈ lw_all := lw_g (lw_at lw_m1 143 rfl) rfl
theorem q225 : (Jvm.Cond.soleField "CreditShelf" "seenKey") ∈ lw_all := lw_g (lw_at lw_m1 144 rfl) rfl
theorem q226 : (Jvm.Cond.laysFinal "CreditShelf" "CreditShelf" "seenWhat" "[I") ∈ lw_all := lw_g (lw_at lw_m1 145 rfl) rfl
theorem q227 : (Jvm.Cond.soleField "CreditShelf" "seenWhat") ∈ lw_all := lw_g (lw_at lw_m1 146 rfl) rfl
theorem q228 : (Jvm.Cond.laysFinal "CreditShelf" "CreditShelf" "seenCould" "[Z") ∈ lw_all := lw_g (lw_at lw_m1 147 rfl) rfl
theorem q229 : (Jvm.Cond.soleField "CreditShelf" "seenCould") ∈ lw_all := lw_g (lw_at lw_m1 148 rfl) rfl
theorem q230 : (Jvm.Cond.laysFinal "CreditShelf" "CreditShelf" "samples" "Ljava/util/ArrayList;") ∈ lw_all := lw_g (lw_at lw_m1 149 rfl) rfl
theorem q231 : (Jvm.Cond.soleField "CreditShelf" "samples") ∈ lw_all := lw_g (lw_at lw_m1 150 rfl) rfl
theorem q232 : (Jvm.Cond.lays "CreditShelf" "CreditShelf" "drawn" "J") ∈ lw_all := lw_g (lw_at lw_m1 151 rfl) rfl
theorem q233 : (Jvm.Cond.soleField "CreditShelf" "drawn") ∈ lw_all := lw_g (lw_at lw_m1 152 rfl) rfl
theorem q234 : (Jvm.Cond.lays "CreditShelf" "CreditShelf" "kept" "LCreditShelf$Tree;") ∈ lw_all := lw_g (lw_at lw_m1 153 rfl) rfl
theorem q235 : (Jvm.Cond.soleField "CreditShelf" "kept") ∈ lw_all := lw_g (lw_at lw_m1 154 rfl) rfl
theorem q236 : (Jvm.Cond.lays "CreditShelf" "CreditShelf" "keptShelf" "I") ∈ lw_all := lw_g (lw_at lw_m1 155 rfl) rfl
theorem q237 : (Jvm.Cond.soleField "CreditShelf" "keptShelf") ∈ lw_all := lw_g (lw_at lw_m1 156 rfl) rfl
theorem q238 : (Jvm.Cond.lays "CreditShelf" "CreditShelf" "keptLogged" "I") ∈ lw_all := lw_g (lw_at lw_m1 157 rfl) rfl
theorem q239 : (Jvm.Cond.soleField "CreditShelf" "keptLogged") ∈ lw_all := lw_g (lw_at lw_m1 158 rfl) rfl
theorem q240 : (Jvm.Cond.lays "CreditShelf" "CreditShelf" "keptSeen" "I") ∈ lw_all := lw_g (lw_at lw_m1 159 rfl) rfl
theorem q241 : (Jvm.Cond.soleField "CreditShelf" "keptSeen") ∈ lw_all := lw_g (lw_at lw_m1 160 rfl) rfl
theorem q242 : (Jvm.Cond.laysFinal "CreditShelf" "CreditShelf" "keptLog" "[I") ∈ lw_all := lw_g (lw_at lw_m1 161 rfl) rfl
theorem q243 : (Jvm.Cond.soleField "CreditShelf" "keptLog") ∈ lw_all := lw_g (lw_at lw_m1 162 rfl) rfl
theorem q244 : (Jvm.Cond.laysFinal "CreditShelf" "CreditShelf" "keptKey" "[I") ∈ lw_all := lw_g (lw_at lw_m1 163 rfl) rfl
theorem q245 : (Jvm.Cond.soleField "CreditShelf" "keptKey") ∈ lw_all := lw_g (lw_at lw_m1 164 rfl) rfl
theorem q246 : (Jvm.Cond.laysFinal "CreditShelf" "CreditShelf" "keptWhat" "[I") ∈ lw_all := lw_g (lw_at lw_m1 165 rfl) rfl
theorem q247 : (Jvm.Cond.soleField "CreditShelf" "keptWhat") ∈ lw_all := lw_g (lw_at lw_m1 166 rfl) rfl
theorem q248 : (Jvm.Cond.laysFinal "CreditShelf" "CreditShelf" "keptCould" "[Z") ∈ lw_all := lw_g (lw_at lw_m1 167 rfl) rfl
theorem q249 : (Jvm.Cond.soleField "CreditShelf" "keptCould") ∈ lw_all := lw_g (lw_at lw_m1 168 rfl) rfl
theorem q250 : (Jvm.Cond.superclass "CreditShelf" "java/lang/Object") ∈ lw_all := lw_g (lw_at lw_m1 169 rfl) rfl
theorem q252 : (Jvm.Cond.instanceMethod ({ cls := "CreditShelf", name := "letter", desc := "(I)I" } : Jvm.MethodName)) ∈ lw_all := lw_g (lw_at lw_m1 171 rfl) rfl
theorem q253 : (Jvm.Cond.selects "CreditShelf" ({ cls := "CreditShelf", name := "letter", desc := "(I)I" } : Jvm.MethodName) ({ cls := "CreditShelf", name := "letter", desc := "(I)I" } : Jvm.MethodName)) ∈ lw_all := lw_g (lw_at lw_m1 172 rfl) rfl
theorem q254 : (Jvm.Cond.code ({ cls := "CreditShelf", name := "letter", desc := "(I)I" } : Jvm.MethodName) prog_1_method_10_code (2 : Nat) (Option.some Jvm.ClassFile.FieldType.int)) ∈ lw_all := lw_g (lw_at lw_m1 173 rfl) rfl
theorem q255 : (Jvm.Cond.methodLink "CreditShelf" (3 : Nat) ({ cls := "CreditShelf", name := "in", desc := "(III)Z" } : Jvm.MethodName)) ∈ lw_all := lw_g (lw_at lw_m1 174 rfl) rfl
theorem q256 : (Jvm.Cond.static ({ cls := "CreditShelf", name := "in", desc := "(III)Z" } : Jvm.MethodName)) ∈ lw_all := lw_g (lw_at lw_m1 175 rfl) rfl
theorem q257 : (Jvm.Cond.code ({ cls := "CreditShelf", name := "in", desc := "(III)Z" } : Jvm.MethodName) prog_1_method_1_code (3 : Nat) (Option.some Jvm.ClassFile.FieldType.boolean)) ∈ lw_all := lw_g (lw_at lw_m1 176 rfl) rfl
theorem q259 : (Jvm.Cond.instanceMethod ({ cls := "CreditShelf", name := "blank", desc := "()I" } : Jvm.MethodName)) ∈ lw_all := lw_g (lw_at lw_m1 178 rfl) rfl
theorem q260 : (Jvm.Cond.selects "CreditShelf" ({ cls := "CreditShelf", name := "blank", desc := "()I" } : Jvm.MethodName) ({ cls := "CreditShelf", name := "blank", desc := "()I" } : Jvm.MethodName)) ∈ lw_all := lw_g (lw_at lw_m1 179 rfl) rfl
theorem q261 : (Jvm.Cond.code ({ cls := "CreditShelf", name := "blank", desc := "()I" } : Jvm.MethodName) prog_1_method_11_code (2 : Nat) (Option.some Jvm.ClassFile.FieldType.int)) ∈ lw_all := lw_g (lw_at lw_m1 180 rfl) rfl
theorem q263 : (Jvm.Cond.instanceMethod ({ cls := "CreditShelf", name := "fault", desc := "()I" } : Jvm.MethodName)) ∈ lw_all := lw_g (lw_at lw_m1 182 rfl) rfl
theorem q264 : (Jvm.Cond.selects "CreditShelf" ({ cls := "CreditShelf", name := "fault", desc := "()I" } : Jvm.MethodName) ({ cls := "CreditShelf", name := "fault", desc := "()I" } : Jvm.MethodName)) ∈ lw_all := lw_g (lw_at lw_m1 183 rfl) rfl
theorem q265 : (Jvm.Cond.codeWith ({ cls := "CreditShelf", name := "fault", desc := "()I" } : Jvm.MethodName) prog_1_method_12_code (2 : Nat) (Option.some Jvm.ClassFile.FieldType.int) [((0 : Nat), (16 : Nat), (17 : Nat), (126 : Nat))]) ∈ lw_all := lw_g (lw_at lw_m1 184 rfl) rfl
theorem q266 : (Jvm.Cond.classLink "CreditShelf" (126 : Nat) "CreditShelf$Stop") ∈ lw_all := lw_g (lw_at lw_m1 185 rfl) rfl
theorem q267 : (Jvm.Cond.classLink "CreditShelf" (117 : Nat) "CreditShelf$Reader") ∈ lw_all := lw_g (lw_at lw_m1 186 rfl) rfl
theorem q269 : (Jvm.Cond.methodLinkNest "CreditShelf" (119 : Nat) ({ cls := "CreditShelf$Reader", name := "<init>", desc := "(LCreditShelf;)V" } : Jvm.MethodName) "CreditShelf") ∈ lw_tbl := lw_at lw_m1 188 rfl
theorem q277 : (Jvm.Cond.fieldLinkNest "CreditShelf" (131 : Nat) "CreditShelf$Reader" "a" "I" "CreditShelf") ∈ lw_tbl := lw_at lw_m1 196 rfl
theorem q279 : (Jvm.Cond.fieldLinkNest "CreditShelf" (134 : Nat) "CreditShelf$Reader" "b" "I" "CreditShelf") ∈ lw_tbl := lw_at lw_m1 198 rfl
theorem q281 : (Jvm.Cond.fieldLinkNest "CreditShelf" (137 : Nat) "CreditShelf$Reader" "fee" "I" "CreditShelf") ∈ lw_tbl := lw_at lw_m1 200 rfl
theorem q283 : (Jvm.Cond.fieldLinkNest "CreditShelf" (147 : Nat) "CreditShelf$Reader" "entries" "Ljava/util/ArrayList;" "CreditShelf") ∈ lw_tbl := lw_at lw_m1 202 rfl
theorem q298 : (Jvm.Cond.methodLink "CreditShelf" (122 : Nat) ({ cls := "CreditShelf$Reader", name := "shelf", desc := "()LCreditShelf$Reader;" } : Jvm.MethodName)) ∈ lw_all := lw_g (lw_at lw_m1 217 rfl) rfl
theorem q362 : (Jvm.Cond.fieldLinkNest "CreditShelf" (128 : Nat) "CreditShelf$Stop" "place" "I" "CreditShelf") ∈ lw_tbl := lw_at lw_m2 41 rfl
theorem q413 : (Jvm.Cond.static ({ cls := "CreditShelf", name := "made", desc := "(III)LCreditShelf$Entry;" } : Jvm.MethodName)) ∈ lw_all := lw_g (lw_at lw_m2 92 rfl) rfl
theorem q414 : (Jvm.Cond.code ({ cls := "CreditShelf", name := "made", desc := "(III)LCreditShelf$Entry;" } : Jvm.MethodName) prog_1_method_5_code (4 : Nat) (Option.some (Jvm.ClassFile.FieldType.object "CreditShelf$Entry"))) ∈ lw_all := lw_g (lw_at lw_m2 93 rfl) rfl
theorem q415 : (Jvm.Cond.classLink "CreditShelf" (57 : Nat) "CreditShelf$Locked") ∈ lw_all := lw_g (lw_at lw_m2 94 rfl) rfl
theorem q417 : (Jvm.Cond.methodLinkNest "CreditShelf" (59 : Nat) ({ cls := "CreditShelf$Locked", name := "<init>", desc := "()V" } : Jvm.MethodName) "CreditShelf") ∈ lw_tbl := lw_at lw_m2 96 rfl
theorem q425 : (Jvm.Cond.fieldLink "CreditShelf" (72 : Nat) "CreditShelf$Entry" "key" "I") ∈ lw_all := lw_g (lw_at lw_m2 104 rfl) rfl
theorem q427 : (Jvm.Cond.fieldLink "CreditShelf" (76 : Nat) "CreditShelf$Entry" "value" "I") ∈ lw_all := lw_g (lw_at lw_m2 106 rfl) rfl
theorem q429 : (Jvm.Cond.fieldLink "CreditShelf" (79 : Nat) "CreditShelf$Entry" "left" "LCreditShelf$Entry;") ∈ lw_all := lw_g (lw_at lw_m2 108 rfl) rfl
theorem q431 : (Jvm.Cond.fieldLink "CreditShelf" (87 : Nat) "CreditShelf$Entry" "right" "LCreditShelf$Entry;") ∈ lw_all := lw_g (lw_at lw_m2 110 rfl) rfl
theorem q441 : (Jvm.Cond.classLink "CreditShelf" (60 : Nat) "CreditShelf$Counted") ∈ lw_all := lw_g (lw_at lw_m2 120 rfl) rfl
theorem q443 : (Jvm.Cond.methodLinkNest "CreditShelf" (62 : Nat) ({ cls := "CreditShelf$Counted", name := "<init>", desc := "()V" } : Jvm.MethodName) "CreditShelf") ∈ lw_tbl := lw_at lw_m2 122 rfl
theorem q452 : (Jvm.Cond.classLink "CreditShelf" (63 : Nat) "CreditShelf$Fading") ∈ lw_all := lw_g (lw_at lw_m2 131 rfl) rfl
theorem q454 : (Jvm.Cond.methodLinkNest "CreditShelf" (65 : Nat) ({ cls := "CreditShelf$Fading", name := "<init>", desc := "()V" } : Jvm.MethodName) "CreditShelf") ∈ lw_tbl := lw_at lw_m2 133 rfl
theorem q463 : (Jvm.Cond.classLink "CreditShelf" (66 : Nat) "CreditShelf$Sealed") ∈ lw_all := lw_g (lw_at lw_m2 142 rfl) rfl
theorem q465 : (Jvm.Cond.methodLinkNest "CreditShelf" (68 : Nat) ({ cls := "CreditShelf$Sealed", name := "<init>", desc := "()V" } : Jvm.MethodName) "CreditShelf") ∈ lw_tbl := lw_at lw_m2 144 rfl
theorem q474 : (Jvm.Cond.classLink "CreditShelf" (69 : Nat) "CreditShelf$Entry") ∈ lw_all := lw_g (lw_at lw_m2 153 rfl) rfl
theorem q476 : (Jvm.Cond.methodLinkNest "CreditShelf" (71 : Nat) ({ cls := "CreditShelf$Entry", name := "<init>", desc := "()V" } : Jvm.MethodName) "CreditShelf") ∈ lw_tbl := lw_at lw_m2 155 rfl
theorem q514 : (Jvm.Cond.selects "CreditShelf" ({ cls := "java/lang/Object", name := "getClass", desc := "()Ljava/lang/Class;" } : Jvm.MethodName) ({ cls := "java/lang/Object", name := "getClass", desc := "()Ljava/lang/Class;" } : Jvm.MethodName)) ∈ lw_all := lw_g (lw_at lw_m2 193 rfl) rfl
theorem q539 : (Jvm.Cond.instanceMethod ({ cls := "CreditShelf", name := "shelf", desc := "()I" } : Jvm.MethodName)) ∈ lw_all := lw_g (lw_at lw_m2 218 rfl) rfl
theorem q540 : (Jvm.Cond.selects "CreditShelf" ({ cls := "CreditShelf", name := "shelf", desc := "()I" } : Jvm.MethodName) ({ cls := "CreditShelf", name := "shelf", desc := "()I" } : Jvm.MethodName)) ∈ lw_all := lw_g (lw_at lw_m2 219 rfl) rfl
theorem q541 : (Jvm.Cond.codeWith ({ cls := "CreditShelf", name := "shelf", desc := "()I" } : Jvm.MethodName) prog_1_method_14_code (2 : Nat) (Option.some Jvm.ClassFile.FieldType.int) [((0 : Nat), (42 : Nat), (43 : Nat), (126 : Nat))]) ∈ lw_all := lw_g (lw_at lw_m2 220 rfl) rfl
theorem q542 : (Jvm.Cond.methodLink "CreditShelf" (160 : Nat) ({ cls := "CreditShelf", name := "fill", desc := "(LCreditShelf$Reader;)V" } : Jvm.MethodName)) ∈ lw_all := lw_g (lw_at lw_m2 221 rfl) rfl
theorem q543 : (Jvm.Cond.privateMethod ({ cls := "CreditShelf", name := "fill", desc := "(LCreditShelf$Reader;)V" } : Jvm.MethodName)) ∈ lw_tbl := lw_at lw_m2 222 rfl
theorem q544 : (Jvm.Cond.instanceMethod ({ cls := "CreditShelf", name := "fill", desc := "(LCreditShelf$Reader;)V" } : Jvm.MethodName)) ∈ lw_all := lw_g (lw_at lw_m2 223 rfl) rfl
theorem q545 : (Jvm.Cond.code ({ cls := "CreditShelf", name := "fill", desc := "(LCreditShelf$Reader;)V" } : Jvm.MethodName) prog_1_method_13_code (3 : Nat) (Option.none : Option Jvm.ClassFile.FieldType)) ∈ lw_all := lw_g (lw_at lw_m2 224 rfl) rfl
theorem q546 : (Jvm.Cond.methodLink "CreditShelf" (140 : Nat) ({ cls := "CreditShelf$Tree", name := "empty", desc := "(III)LCreditShelf$Tree;" } : Jvm.MethodName)) ∈ lw_all := lw_g (lw_at lw_m2 225 rfl) rfl
theorem q550 : (Jvm.Cond.methodLink "CreditShelf" (150 : Nat) ({ cls := "java/util/ArrayList", name := "size", desc := "()I" } : Jvm.MethodName)) ∈ lw_all := lw_g (lw_at lw_m2 229 rfl) rfl
theorem q551 : (Jvm.Cond.methodLink "CreditShelf" (153 : Nat) ({ cls := "java/util/ArrayList", name := "get", desc := "(I)Ljava/lang/Object;" } : Jvm.MethodName)) ∈ lw_all := lw_g (lw_at lw_m2 230 rfl) rfl
theorem q552 : (Jvm.Cond.methodLink "CreditShelf" (157 : Nat) ({ cls := "CreditShelf", name := "putNew", desc := "(LCreditShelf$Entry;)I" } : Jvm.MethodName)) ∈ lw_all := lw_g (lw_at lw_m2 231 rfl) rfl
theorem q553 : (Jvm.Cond.privateMethod ({ cls := "CreditShelf", name := "putNew", desc := "(LCreditShelf$Entry;)I" } : Jvm.MethodName)) ∈ lw_tbl := lw_at lw_m2 232 rfl
theorem q554 : (Jvm.Cond.instanceMethod ({ cls := "CreditShelf", name := "putNew", desc := "(LCreditShelf$Entry;)I" } : Jvm.MethodName)) ∈ lw_all := lw_g (lw_at lw_m2 233 rfl) rfl
theorem q555 : (Jvm.Cond.code ({ cls := "CreditShelf", name := "putNew", desc := "(LCreditShelf$Entry;)I" } : Jvm.MethodName) prog_1_method_26_code (2 : Nat) (Option.some Jvm.ClassFile.FieldType.int)) ∈ lw_all := lw_g (lw_at lw_m2 234 rfl) rfl
theorem q556 : (Jvm.Cond.methodLink "CreditShelf" (209 : Nat) ({ cls := "CreditShelf", name := "write", desc := "(I)V" } : Jvm.MethodName)) ∈ lw_all := lw_g (lw_at lw_m2 235 rfl) rfl
theorem q557 : (Jvm.Cond.privateMethod ({ cls := "CreditShelf", name := "write", desc := "(I)V" } : Jvm.MethodName)) ∈ lw_tbl := lw_at lw_m2 236 rfl
theorem q558 : (Jvm.Cond.instanceMethod ({ cls := "CreditShelf", name := "write", desc := "(I)V" } : Jvm.MethodName)) ∈ lw_all := lw_g (lw_at lw_m2 237 rfl) rfl
theorem q559 : (Jvm.Cond.code ({ cls := "CreditShelf", name := "write", desc := "(I)V" } : Jvm.MethodName) prog_1_method_25_code (2 : Nat) (Option.none : Option Jvm.ClassFile.FieldType)) ∈ lw_all := lw_g (lw_at lw_m2 238 rfl) rfl
theorem q560 : (Jvm.Cond.methodLink "CreditShelf" (213 : Nat) ({ cls := "CreditShelf$Tree", name := "put", desc := "(LCreditShelf$Entry;)I" } : Jvm.MethodName)) ∈ lw_all := lw_g (lw_at lw_m2 239 rfl) rfl
theorem q589 : (Jvm.Cond.static ({ cls := "CreditShelf", name := "sizeOf", desc := "(LCreditShelf$Entry;)I" } : Jvm.MethodName)) ∈ lw_all := lw_g (lw_at lw_m3 28 rfl) rfl
theorem q590 : (Jvm.Cond.code ({ cls := "CreditShelf", name := "sizeOf", desc := "(LCreditShelf$Entry;)I" } : Jvm.MethodName) prog_1_method_6_code (1 : Nat) (Option.some Jvm.ClassFile.FieldType.int)) ∈ lw_all := lw_g (lw_at lw_m3 29 rfl) rfl
theorem q591 : (Jvm.Cond.methodLink "CreditShelf" (83 : Nat) ({ cls := "CreditShelf", name := "sizeOf", desc := "(LCreditShelf$Entry;)I" } : Jvm.MethodName)) ∈ lw_all := lw_g (lw_at lw_m3 30 rfl) rfl
theorem q607 : (Jvm.Cond.instanceMethod ({ cls := "CreditShelf", name := "entry", desc := "(II)I" } : Jvm.MethodName)) ∈ lw_all := lw_g (lw_at lw_m3 46 rfl) rfl
theorem q608 : (Jvm.Cond.selects "CreditShelf" ({ cls := "CreditShelf", name := "entry", desc := "(II)I" } : Jvm.MethodName) ({ cls := "CreditShelf", name := "entry", desc := "(II)I" } : Jvm.MethodName)) ∈ lw_all := lw_g (lw_at lw_m3 47 rfl) rfl
theorem q609 : (Jvm.Cond.code ({ cls := "CreditShelf", name := "entry", desc := "(II)I" } : Jvm.MethodName) prog_1_method_19_code (4 : Nat) (Option.some Jvm.ClassFile.FieldType.int)) ∈ lw_all := lw_g (lw_at lw_m3 48 rfl) rfl
theorem q610 : (Jvm.Cond.methodLink "CreditShelf" (188 : Nat) ({ cls := "CreditShelf$Tree", name := "find", desc := "(I)LCreditShelf$Entry;" } : Jvm.MethodName)) ∈ lw_all := lw_g (lw_at lw_m3 49 rfl) rfl
theorem q614 : (Jvm.Cond.methodLink "CreditShelf" (191 : Nat) ({ cls := "CreditShelf", name := "entryTold", desc := "(LCreditShelf$Entry;I)I" } : Jvm.MethodName)) ∈ lw_all := lw_g (lw_at lw_m3 53 rfl) rfl
theorem q615 : (Jvm.Cond.privateMethod ({ cls := "CreditShelf", name := "entryTold", desc := "(LCreditShelf$Entry;I)I" } : Jvm.MethodName)) ∈ lw_tbl := lw_at lw_m3 54 rfl
theorem q616 : (Jvm.Cond.instanceMethod ({ cls := "CreditShelf", name := "entryTold", desc := "(LCreditShelf$Entry;I)I" } : Jvm.MethodName)) ∈ lw_all := lw_g (lw_at lw_m3 55 rfl) rfl
theorem q617 : (Jvm.Cond.code ({ cls := "CreditShelf", name := "entryTold", desc := "(LCreditShelf$Entry;I)I" } : Jvm.MethodName) prog_1_method_18_code (3 : Nat) (Option.some Jvm.ClassFile.FieldType.int)) ∈ lw_all := lw_g (lw_at lw_m3 56 rfl) rfl
theorem q618 : (Jvm.Cond.methodLink "CreditShelf" (99 : Nat) ({ cls := "CreditShelf$Entry", name := "kind", desc := "()I" } : Jvm.MethodName)) ∈ lw_all := lw_g (lw_at lw_m3 57 rfl) rfl
theorem q635 : (Jvm.Cond.methodLink "CreditShelf" (170 : Nat) ({ cls := "CreditShelf$Tree", name := "wayTo", desc := "(I)Ljava/util/ArrayList;" } : Jvm.MethodName)) ∈ lw_all := lw_g (lw_at lw_m3 74 rfl) rfl
theorem q636 : (Jvm.Cond.methodLink "CreditShelf" (178 : Nat) ({ cls := "CreditShelf", name := "keyOf", desc := "(LCreditShelf$Entry;)I" } : Jvm.MethodName)) ∈ lw_all := lw_g (lw_at lw_m3 75 rfl) rfl
theorem q637 : (Jvm.Cond.privateMethod ({ cls := "CreditShelf", name := "keyOf", desc := "(LCreditShelf$Entry;)I" } : Jvm.MethodName)) ∈ lw_tbl := lw_at lw_m3 76 rfl
theorem q638 : (Jvm.Cond.instanceMethod ({ cls := "CreditShelf", name := "keyOf", desc := "(LCreditShelf$Entry;)I" } : Jvm.MethodName)) ∈ lw_all := lw_g (lw_at lw_m3 77 rfl) rfl
theorem q639 : (Jvm.Cond.code ({ cls := "CreditShelf", name := "keyOf", desc := "(LCreditShelf$Entry;)I" } : Jvm.MethodName) prog_1_method_15_code (2 : Nat) (Option.some Jvm.ClassFile.FieldType.int)) ∈ lw_all := lw_g (lw_at lw_m3 78 rfl) rfl
theorem q640 : (Jvm.Cond.methodLink "CreditShelf" (181 : Nat) ({ cls := "CreditShelf", name := "above", desc := "(I)LCreditShelf$Entry;" } : Jvm.MethodName)) ∈ lw_all := lw_g (lw_at lw_m3 79 rfl) rfl
theorem q641 : (Jvm.Cond.privateMethod ({ cls := "CreditShelf", name := "above", desc := "(I)LCreditShelf$Entry;" } : Jvm.MethodName)) ∈ lw_tbl := lw_at lw_m3 80 rfl
theorem q642 : (Jvm.Cond.instanceMethod ({ cls := "CreditShelf", name := "above", desc := "(I)LCreditShelf$Entry;" } : Jvm.MethodName)) ∈ lw_all := lw_g (lw_at lw_m3 81 rfl) rfl
theorem q643 : (Jvm.Cond.code ({ cls := "CreditShelf", name := "above", desc := "(I)LCreditShelf$Entry;" } : Jvm.MethodName) prog_1_method_16_code (3 : Nat) (Option.some (Jvm.ClassFile.FieldType.object "CreditShelf$Entry"))) ∈ lw_all := lw_g (lw_at lw_m3 82 rfl) rfl
theorem q644 : (Jvm.Cond.methodLink "CreditShelf" (174 : Nat) ({ cls := "CreditShelf", name := "lessThan", desc := "(LCreditShelf$Entry;I)I" } : Jvm.MethodName)) ∈ lw_all := lw_g (lw_at lw_m3 83 rfl) rfl
theorem q645 : (Jvm.Cond.privateMethod ({ cls := "CreditShelf", name := "lessThan", desc := "(LCreditShelf$Entry;I)I" } : Jvm.MethodName)) ∈ lw_tbl := lw_at lw_m3 84 rfl
theorem q646 : (Jvm.Cond.instanceMethod ({ cls := "CreditShelf", name := "lessThan", desc := "(LCreditShelf$Entry;I)I" } : Jvm.MethodName)) ∈ lw_all := lw_g (lw_at lw_m3 85 rfl) rfl
theorem q647 : (Jvm.Cond.code ({ cls := "CreditShelf", name := "lessThan", desc := "(LCreditShelf$Entry;I)I" } : Jvm.MethodName) prog_1_method_17_code (3 : Nat) (Option.some Jvm.ClassFile.FieldType.int)) ∈ lw_all := lw_g (lw_at lw_m3 86 rfl) rfl
theorem q649 : (Jvm.Cond.instanceMethod ({ cls := "CreditShelf", name := "as", desc := "(II)I" } : Jvm.MethodName)) ∈ lw_all := lw_g (lw_at lw_m3 88 rfl) rfl
theorem q650 : (Jvm.Cond.selects "CreditShelf" ({ cls := "CreditShelf", name := "as", desc := "(II)I" } : Jvm.MethodName) ({ cls := "CreditShelf", name := "as", desc := "(II)I" } : Jvm.MethodName)) ∈ lw_all := lw_g (lw_at lw_m3 89 rfl) rfl
theorem q651 : (Jvm.Cond.code ({ cls := "CreditShelf", name := "as", desc := "(II)I" } : Jvm.MethodName) prog_1_method_20_code (4 : Nat) (Option.some Jvm.ClassFile.FieldType.int)) ∈ lw_all := lw_g (lw_at lw_m3 90 rfl) rfl
theorem q652 : (Jvm.Cond.methodLink "CreditShelf" (194 : Nat) ({ cls := "CreditShelf$Entry", name := "isOf", desc := "(I)Z" } : Jvm.MethodName)) ∈ lw_all := lw_g (lw_at lw_m3 91 rfl) rfl
theorem q669 : (Jvm.Cond.instanceMethod ({ cls := "CreditShelf", name := "at", desc := "(I)I" } : Jvm.MethodName)) ∈ lw_all := lw_g (lw_at lw_m3 108 rfl) rfl
theorem q670 : (Jvm.Cond.selects "CreditShelf" ({ cls := "CreditShelf", name := "at", desc := "(I)I" } : Jvm.MethodName) ({ cls := "CreditShelf", name := "at", desc := "(I)I" } : Jvm.MethodName)) ∈ lw_all := lw_g (lw_at lw_m3 109 rfl) rfl
theorem q671 : (Jvm.Cond.code ({ cls := "CreditShelf", name := "at", desc := "(I)I" } : Jvm.MethodName) prog_1_method_23_code (2 : Nat) (Option.some Jvm.ClassFile.FieldType.int)) ∈ lw_all := lw_g (lw_at lw_m3 110 rfl) rfl
theorem q672 : (Jvm.Cond.methodLink "CreditShelf" (202 : Nat) ({ cls := "CreditShelf", name := "keyAt", desc := "(I)I" } : Jvm.MethodName)) ∈ lw_all := lw_g (lw_at lw_m3 111 rfl) rfl
theorem q673 : (Jvm.Cond.privateMethod ({ cls := "CreditShelf", name := "keyAt", desc := "(I)I" } : Jvm.MethodName)) ∈ lw_tbl := lw_at lw_m3 112 rfl
theorem q674 : (Jvm.Cond.instanceMethod ({ cls := "CreditShelf", name := "keyAt", desc := "(I)I" } : Jvm.MethodName)) ∈ lw_all := lw_g (lw_at lw_m3 113 rfl) rfl
theorem q675 : (Jvm.Cond.code ({ cls := "CreditShelf", name := "keyAt", desc := "(I)I" } : Jvm.MethodName) prog_1_method_22_code (4 : Nat) (Option.some Jvm.ClassFile.FieldType.int)) ∈ lw_all := lw_g (lw_at lw_m3 114 rfl) rfl
theorem q676 : (Jvm.Cond.methodLink "CreditShelf" (198 : Nat) ({ cls := "CreditShelf", name := "nextTo", desc := "(I)I" } : Jvm.MethodName)) ∈ lw_all := lw_g (lw_at lw_m3 115 rfl) rfl
theorem q677 : (Jvm.Cond.privateMethod ({ cls := "CreditShelf", name := "nextTo", desc := "(I)I" } : Jvm.MethodName)) ∈ lw_tbl := lw_at lw_m3 116 rfl
theorem q678 : (Jvm.Cond.instanceMethod ({ cls := "CreditShelf", name := "nextTo", desc := "(I)I" } : Jvm.MethodName)) ∈ lw_all := lw_g (lw_at lw_m3 117 rfl) rfl
theorem q679 : (Jvm.Cond.code ({ cls := "CreditShelf", name := "nextTo", desc := "(I)I" } : Jvm.MethodName) prog_1_method_21_code (4 : Nat) (Option.some Jvm.ClassFile.FieldType.int)) ∈ lw_all := lw_g (lw_at lw_m3 118 rfl) rfl
theorem q681 : (Jvm.Cond.instanceMethod ({ cls := "CreditShelf", name := "next", desc := "(I)I" } : Jvm.MethodName)) ∈ lw_all := lw_g (lw_at lw_m3 120 rfl) rfl
theorem q682 : (Jvm.Cond.selects "CreditShelf" ({ cls := "CreditShelf", name := "next", desc := "(I)I" } : Jvm.MethodName) ({ cls := "CreditShelf", name := "next", desc := "(I)I" } : Jvm.MethodName)) ∈ lw_all := lw_g (lw_at lw_m3 121 rfl) rfl
theorem q683 : (Jvm.Cond.code ({ cls := "CreditShelf", name := "next", desc := "(I)I" } : Jvm.MethodName) prog_1_method_24_code (2 : Nat) (Option.some Jvm.ClassFile.FieldType.int)) ∈ lw_all := lw_g (lw_at lw_m3 122 rfl) rfl
theorem q684 : (Jvm.Cond.methodLink "CreditShelf" (205 : Nat) ({ cls := "CreditShelf", name := "isShelf", desc := "()Z" } : Jvm.MethodName)) ∈ lw_all := lw_g (lw_at lw_m3 123 rfl) rfl
theorem q685 : (Jvm.Cond.privateMethod ({ cls := "CreditShelf", name := "isShelf", desc := "()Z" } : Jvm.MethodName)) ∈ lw_tbl := lw_at lw_m3 124 rfl
theorem q686 : (Jvm.Cond.instanceMethod ({ cls := "CreditShelf", name := "isShelf", desc := "()Z" } : Jvm.MethodName)) ∈ lw_all := lw_g (lw_at lw_m3 125 rfl) rfl
theorem q687 : (Jvm.Cond.code ({ cls := "CreditShelf", name := "isShelf", desc := "()Z" } : Jvm.MethodName) prog_1_method_9_code (1 : Nat) (Option.some Jvm.ClassFile.FieldType.boolean)) ∈ lw_all := lw_g (lw_at lw_m3 126 rfl) rfl
theorem q689 : (Jvm.Cond.instanceMethod ({ cls := "CreditShelf", name := "put", desc := "(III)I" } : Jvm.MethodName)) ∈ lw_all := lw_g (lw_at lw_m3 128 rfl) rfl
theorem q690 : (Jvm.Cond.selects "CreditShelf" ({ cls := "CreditShelf", name := "put", desc := "(III)I" } : Jvm.MethodName) ({ cls := "CreditShelf", name := "put", desc := "(III)I" } : Jvm.MethodName)) ∈ lw_all := lw_g (lw_at lw_m3 129 rfl) rfl
theorem q691 : (Jvm.Cond.code ({ cls := "CreditShelf", name := "put", desc := "(III)I" } : Jvm.MethodName) prog_1_method_28_code (5 : Nat) (Option.some Jvm.ClassFile.FieldType.int)) ∈ lw_all := lw_g (lw_at lw_m3 130 rfl) rfl
theorem q692 : (Jvm.Cond.methodLink "CreditShelf" (220 : Nat) ({ cls := "CreditShelf$Entry", name := "mayBePutAnew", desc := "()Z" } : Jvm.MethodName)) ∈ lw_all := lw_g (lw_at lw_m3 131 rfl) rfl
theorem q706 : (Jvm.Cond.methodLink "CreditShelf" (223 : Nat) ({ cls := "CreditShelf", name := "putAnew", desc := "(ILCreditShelf$Entry;I)V" } : Jvm.MethodName)) ∈ lw_all := lw_g (lw_at lw_m3 145 rfl) rfl
theorem q707 : (Jvm.Cond.privateMethod ({ cls := "CreditShelf", name := "putAnew", desc := "(ILCreditShelf$Entry;I)V" } : Jvm.MethodName)) ∈ lw_tbl := lw_at lw_m3 146 rfl
theorem q708 : (Jvm.Cond.instanceMethod ({ cls := "CreditShelf", name := "putAnew", desc := "(ILCreditShelf$Entry;I)V" } : Jvm.MethodName)) ∈ lw_all := lw_g (lw_at lw_m3 147 rfl) rfl
theorem q709 : (Jvm.Cond.code ({ cls := "CreditShelf", name := "putAnew", desc := "(ILCreditShelf$Entry;I)V" } : Jvm.MethodName) prog_1_method_27_code (5 : Nat) (Option.none : Option Jvm.ClassFile.FieldType)) ∈ lw_all := lw_g (lw_at lw_m3 148 rfl) rfl
theorem q710 : (Jvm.Cond.methodLink "CreditShelf" (103 : Nat) ({ cls := "CreditShelf", name := "made", desc := "(III)LCreditShelf$Entry;" } : Jvm.MethodName)) ∈ lw_all := lw_g (lw_at lw_m3 149 rfl) rfl
theorem q711 : (Jvm.Cond.methodLinkNest "CreditShelf" (216 : Nat) ({ cls := "CreditShelf$Tree", name := "hang", desc := "(LCreditShelf$Entry;LCreditShelf$Entry;LCreditShelf$Entry;)V" } : Jvm.MethodName) "CreditShelf") ∈ lw_tbl := lw_at lw_m3 150 rfl
theorem q713 : (Jvm.Cond.instanceMethod ({ cls := "CreditShelf", name := "take", desc := "(I)I" } : Jvm.MethodName)) ∈ lw_all := lw_g (lw_at lw_m3 152 rfl) rfl
theorem q714 : (Jvm.Cond.selects "CreditShelf" ({ cls := "CreditShelf", name := "take", desc := "(I)I" } : Jvm.MethodName) ({ cls := "CreditShelf", name := "take", desc := "(I)I" } : Jvm.MethodName)) ∈ lw_all := lw_g (lw_at lw_m3 153 rfl) rfl
theorem q715 : (Jvm.Cond.code ({ cls := "CreditShelf", name := "take", desc := "(I)I" } : Jvm.MethodName) prog_1_method_30_code (3 : Nat) (Option.some Jvm.ClassFile.FieldType.int)) ∈ lw_all := lw_g (lw_at lw_m3 154 rfl) rfl
theorem q716 : (Jvm.Cond.methodLink "CreditShelf" (230 : Nat) ({ cls := "CreditShelf$Entry", name := "mayBeTaken", desc := "()Z" } : Jvm.MethodName)) ∈ lw_all := lw_g (lw_at lw_m3 155 rfl) rfl
theorem q725 : (Jvm.Cond.methodLink "CreditShelf" (233 : Nat) ({ cls := "CreditShelf", name := "takeAway", desc := "(I)V" } : Jvm.MethodName)) ∈ lw_all := lw_g (lw_at lw_m3 164 rfl) rfl
theorem q726 : (Jvm.Cond.privateMethod ({ cls := "CreditShelf", name := "takeAway", desc := "(I)V" } : Jvm.MethodName)) ∈ lw_tbl := lw_at lw_m3 165 rfl
theorem q727 : (Jvm.Cond.instanceMethod ({ cls := "CreditShelf", name := "takeAway", desc := "(I)V" } : Jvm.MethodName)) ∈ lw_all := lw_g (lw_at lw_m3 166 rfl) rfl
theorem q728 : (Jvm.Cond.code ({ cls := "CreditShelf", name := "takeAway", desc := "(I)V" } : Jvm.MethodName) prog_1_method_29_code (2 : Nat) (Option.none : Option Jvm.ClassFile.FieldType)) ∈ lw_all := lw_g (lw_at lw_m3 167 rfl) rfl
theorem q729 : (Jvm.Cond.methodLink "CreditShelf" (227 : Nat) ({ cls := "CreditShelf$Tree", name := "take", desc := "(I)Z" } : Jvm.MethodName)) ∈ lw_all := lw_g (lw_at lw_m3 168 rfl) rfl
theorem q740 : (Jvm.Cond.instanceMethod ({ cls := "CreditShelf", name := "tell", desc := "(I)I" } : Jvm.MethodName)) ∈ lw_all := lw_g (lw_at lw_m3 179 rfl) rfl
theorem q741 : (Jvm.Cond.selects "CreditShelf" ({ cls := "CreditShelf", name := "tell", desc := "(I)I" } : Jvm.MethodName) ({ cls := "CreditShelf", name := "tell", desc := "(I)I" } : Jvm.MethodName)) ∈ lw_all := lw_g (lw_at lw_m3 180 rfl) rfl
theorem q742 : (Jvm.Cond.code ({ cls := "CreditShelf", name := "tell", desc := "(I)I" } : Jvm.MethodName) prog_1_method_31_code (4 : Nat) (Option.some Jvm.ClassFile.FieldType.int)) ∈ lw_all := lw_g (lw_at lw_m3 181 rfl) rfl
theorem q743 : (Jvm.Cond.methodLink "CreditShelf" (236 : Nat) ({ cls := "CreditShelf$Entry", name := "tellsMore", desc := "()Z" } : Jvm.MethodName)) ∈ lw_all := lw_g (lw_at lw_m3 182 rfl) rfl
theorem q754 : (Jvm.Cond.methodLink "CreditShelf" (239 : Nat) ({ cls := "java/lang/Math", name := "min", desc := "(II)I" } : Jvm.MethodName)) ∈ lw_all := lw_g (lw_at lw_m3 193 rfl) rfl
theorem q755 : (Jvm.Cond.methodLink "CreditShelf" (242 : Nat) ({ cls := "CreditShelf$Entry", name := "stays", desc := "()Z" } : Jvm.MethodName)) ∈ lw_all := lw_g (lw_at lw_m3 194 rfl) rfl
theorem q767 : (Jvm.Cond.instanceMethod ({ cls := "CreditShelf", name := "flatten", desc := "()I" } : Jvm.MethodName)) ∈ lw_all := lw_g (lw_at lw_m3 206 rfl) rfl
theorem q768 : (Jvm.Cond.selects "CreditShelf" ({ cls := "CreditShelf", name := "flatten", desc := "()I" } : Jvm.MethodName) ({ cls := "CreditShelf", name := "flatten", desc := "()I" } : Jvm.MethodName)) ∈ lw_all := lw_g (lw_at lw_m3 207 rfl) rfl
theorem q769 : (Jvm.Cond.code ({ cls := "CreditShelf", name := "flatten", desc := "()I" } : Jvm.MethodName) prog_1_method_32_code (1 : Nat) (Option.some Jvm.ClassFile.FieldType.int)) ∈ lw_all := lw_g (lw_at lw_m3 208 rfl) rfl
theorem q770 : (Jvm.Cond.methodLink "CreditShelf" (245 : Nat) ({ cls := "CreditShelf$Tree", name := "build", desc := "(LCreditShelf$Entry;LCreditShelf$Entry;)I" } : Jvm.MethodName)) ∈ lw_all := lw_g (lw_at lw_m3 209 rfl) rfl
theorem q772 : (Jvm.Cond.instanceMethod ({ cls := "CreditShelf", name := "ledger", desc := "(I)I" } : Jvm.MethodName)) ∈ lw_all := lw_g (lw_at lw_m3 211 rfl) rfl
theorem q773 : (Jvm.Cond.selects "CreditShelf" ({ cls := "CreditShelf", name := "ledger", desc := "(I)I" } : Jvm.MethodName) ({ cls := "CreditShelf", name := "ledger", desc := "(I)I" } : Jvm.MethodName)) ∈ lw_all := lw_g (lw_at lw_m3 212 rfl) rfl
theorem q774 : (Jvm.Cond.code ({ cls := "CreditShelf", name := "ledger", desc := "(I)I" } : Jvm.MethodName) prog_1_method_34_code (2 : Nat) (Option.some Jvm.ClassFile.FieldType.int)) ∈ lw_all := lw_g (lw_at lw_m3 213 rfl) rfl
theorem q775 : (Jvm.Cond.methodLink "CreditShelf" (268 : Nat) ({ cls := "CreditShelf", name := "ledgerTold", desc := "(I)I" } : Jvm.MethodName)) ∈ lw_all := lw_g (lw_at lw_m3 214 rfl) rfl
theorem q776 : (Jvm.Cond.privateMethod ({ cls := "CreditShelf", name := "ledgerTold", desc := "(I)I" } : Jvm.MethodName)) ∈ lw_tbl := lw_at lw_m3 215 rfl
theorem q777 : (Jvm.Cond.instanceMethod ({ cls := "CreditShelf", name := "ledgerTold", desc := "(I)I" } : Jvm.MethodName)) ∈ lw_all := lw_g (lw_at lw_m3 216 rfl) rfl
theorem q778 : (Jvm.Cond.code ({ cls := "CreditShelf", name := "ledgerTold", desc := "(I)I" } : Jvm.MethodName) prog_1_method_33_code (2 : Nat) (Option.some Jvm.ClassFile.FieldType.int)) ∈ lw_all := lw_g (lw_at lw_m3 217 rfl) rfl
theorem q779 : (Jvm.Cond.methodLink "CreditShelf" (90 : Nat) ({ cls := "CreditShelf", name := "tallOf", desc := "(LCreditShelf$Entry;)I" } : Jvm.MethodName)) ∈ lw_all := lw_g (lw_at lw_m3 218 rfl) rfl
theorem q780 : (Jvm.Cond.static ({ cls := "CreditShelf", name := "tallOf", desc := "(LCreditShelf$Entry;)I" } : Jvm.MethodName)) ∈ lw_all := lw_g (lw_at lw_m3 219 rfl) rfl
theorem q781 : (Jvm.Cond.code ({ cls := "CreditShelf", name := "tallOf", desc := "(LCreditShelf$Entry;)I" } : Jvm.MethodName) prog_1_method_7_code (1 : Nat) (Option.some Jvm.ClassFile.FieldType.int)) ∈ lw_all := lw_g (lw_at lw_m3 220 rfl) rfl
theorem q782 : (Jvm.Cond.methodLink "CreditShelf" (93 : Nat) ({ cls := "java/lang/Math", name := "max", desc := "(II)I" } : Jvm.MethodName)) ∈ lw_all := lw_g (lw_at lw_m3 221 rfl) rfl
theorem q783 : (Jvm.Cond.methodLink "CreditShelf" (249 : Nat) ({ cls := "CreditShelf$Tree", name := "limit", desc := "(I)I" } : Jvm.MethodName)) ∈ lw_all := lw_g (lw_at lw_m3 222 rfl) rfl
theorem q784 : (Jvm.Cond.constant "CreditShelf" (255 : Nat) (100000 : Int32)) ∈ lw_all := lw_g (lw_at lw_m3 223 rfl) rfl
theorem q786 : (Jvm.Cond.instanceMethod ({ cls := "CreditShelf", name := "would", desc := "(I)I" } : Jvm.MethodName)) ∈ lw_all := lw_g (lw_at lw_m3 225 rfl) rfl
theorem q787 : (Jvm.Cond.selects "CreditShelf" ({ cls := "CreditShelf", name := "would", desc := "(I)I" } : Jvm.MethodName) ({ cls := "CreditShelf", name := "would", desc := "(I)I" } : Jvm.MethodName)) ∈ lw_all := lw_g (lw_at lw_m3 226 rfl) rfl
theorem q788 : (Jvm.Cond.code ({ cls := "CreditShelf", name := "would", desc := "(I)I" } : Jvm.MethodName) prog_1_method_36_code (2 : Nat) (Option.some Jvm.ClassFile.FieldType.int)) ∈ lw_all := lw_g (lw_at lw_m3 227 rfl) rfl
theorem q789 : (Jvm.Cond.methodLink "CreditShelf" (274 : Nat) ({ cls := "CreditShelf", name := "wouldBuild", desc := "(I)I" } : Jvm.MethodName)) ∈ lw_all := lw_g (lw_at lw_m3 228 rfl) rfl
theorem q790 : (Jvm.Cond.privateMethod ({ cls := "CreditShelf", name := "wouldBuild", desc := "(I)I" } : Jvm.MethodName)) ∈ lw_tbl := lw_at lw_m3 229 rfl
theorem q791 : (Jvm.Cond.instanceMethod ({ cls := "CreditShelf", name := "wouldBuild", desc := "(I)I" } : Jvm.MethodName)) ∈ lw_all := lw_g (lw_at lw_m3 230 rfl) rfl
theorem q792 : (Jvm.Cond.code ({ cls := "CreditShelf", name := "wouldBuild", desc := "(I)I" } : Jvm.MethodName) prog_1_method_35_code (2 : Nat) (Option.some Jvm.ClassFile.FieldType.int)) ∈ lw_all := lw_g (lw_at lw_m3 231 rfl) rfl
theorem q793 : (Jvm.Cond.methodLink "CreditShelf" (271 : Nat) ({ cls := "CreditShelf$Tree", name := "would", desc := "(I)I" } : Jvm.MethodName)) ∈ lw_all := lw_g (lw_at lw_m3 232 rfl) rfl
theorem q798 : (Jvm.Cond.instanceMethod ({ cls := "CreditShelf", name := "dear", desc := "(I)I" } : Jvm.MethodName)) ∈ lw_all := lw_g (lw_at lw_m3 237 rfl) rfl
theorem q799 : (Jvm.Cond.selects "CreditShelf" ({ cls := "CreditShelf", name := "dear", desc := "(I)I" } : Jvm.MethodName) ({ cls := "CreditShelf", name := "dear", desc := "(I)I" } : Jvm.MethodName)) ∈ lw_all := lw_g (lw_at lw_m3 238 rfl) rfl
theorem q800 : (Jvm.Cond.code ({ cls := "CreditShelf", name := "dear", desc := "(I)I" } : Jvm.MethodName) prog_1_method_38_code (2 : Nat) (Option.some Jvm.ClassFile.FieldType.int)) ∈ lw_all := lw_g (lw_at lw_m3 239 rfl) rfl
theorem q801 : (Jvm.Cond.methodLink "CreditShelf" (277 : Nat) ({ cls := "CreditShelf", name := "dearTold", desc := "(I)I" } : Jvm.MethodName)) ∈ lw_all := lw_g (lw_at lw_m4 0 rfl) rfl
theorem q802 : (Jvm.Cond.privateMethod ({ cls := "CreditShelf", name := "dearTold", desc := "(I)I" } : Jvm.MethodName)) ∈ lw_tbl := lw_at lw_m4 1 rfl
theorem q803 : (Jvm.Cond.instanceMethod ({ cls := "CreditShelf", name := "dearTold", desc := "(I)I" } : Jvm.MethodName)) ∈ lw_all := lw_g (lw_at lw_m4 2 rfl) rfl
theorem q804 : (Jvm.Cond.code ({ cls := "CreditShelf", name := "dearTold", desc := "(I)I" } : Jvm.MethodName) prog_1_method_37_code (6 : Nat) (Option.some Jvm.ClassFile.FieldType.int)) ∈ lw_all := lw_g (lw_at lw_m4 3 rfl) rfl
theorem q806 : (Jvm.Cond.instanceMethod ({ cls := "CreditShelf", name := "replay", desc := "(III)I" } : Jvm.MethodName)) ∈ lw_all := lw_g (lw_at lw_m4 5 rfl) rfl
theorem q807 : (Jvm.Cond.selects "CreditShelf" ({ cls := "CreditShelf", name := "replay", desc := "(III)I" } : Jvm.MethodName) ({ cls := "CreditShelf", name := "replay", desc := "(III)I" } : Jvm.MethodName)) ∈ lw_all := lw_g (lw_at lw_m4 6 rfl) rfl
theorem q808 : (Jvm.Cond.code ({ cls := "CreditShelf", name := "replay", desc := "(III)I" } : Jvm.MethodName) prog_1_method_40_code (4 : Nat) (Option.some Jvm.ClassFile.FieldType.int)) ∈ lw_all := lw_g (lw_at lw_m4 7 rfl) rfl
theorem q809 : (Jvm.Cond.methodLink "CreditShelf" (281 : Nat) ({ cls := "CreditShelf", name := "isRatio", desc := "(II)Z" } : Jvm.MethodName)) ∈ lw_all := lw_g (lw_at lw_m4 8 rfl) rfl
theorem q810 : (Jvm.Cond.static ({ cls := "CreditShelf", name := "isRatio", desc := "(II)Z" } : Jvm.MethodName)) ∈ lw_all := lw_g (lw_at lw_m4 9 rfl) rfl
theorem q811 : (Jvm.Cond.code ({ cls := "CreditShelf", name := "isRatio", desc := "(II)Z" } : Jvm.MethodName) prog_1_method_3_code (2 : Nat) (Option.some Jvm.ClassFile.FieldType.boolean)) ∈ lw_all := lw_g (lw_at lw_m4 10 rfl) rfl
theorem q812 : (Jvm.Cond.methodLink "CreditShelf" (285 : Nat) ({ cls := "CreditShelf", name := "replayTold", desc := "(III)I" } : Jvm.MethodName)) ∈ lw_all := lw_g (lw_at lw_m4 11 rfl) rfl
theorem q813 : (Jvm.Cond.privateMethod ({ cls := "CreditShelf", name := "replayTold", desc := "(III)I" } : Jvm.MethodName)) ∈ lw_tbl := lw_at lw_m4 12 rfl
theorem q814 : (Jvm.Cond.instanceMethod ({ cls := "CreditShelf", name := "replayTold", desc := "(III)I" } : Jvm.MethodName)) ∈ lw_all := lw_g (lw_at lw_m4 13 rfl) rfl
theorem q815 : (Jvm.Cond.code ({ cls := "CreditShelf", name := "replayTold", desc := "(III)I" } : Jvm.MethodName) prog_1_method_39_code (6 : Nat) (Option.some Jvm.ClassFile.FieldType.int)) ∈ lw_all := lw_g (lw_at lw_m4 14 rfl) rfl
theorem q817 : (Jvm.Cond.instanceMethod ({ cls := "CreditShelf", name := "ahead", desc := "()I" } : Jvm.MethodName)) ∈ lw_all := lw_g (lw_at lw_m4 16 rfl) rfl
theorem q818 : (Jvm.Cond.selects "CreditShelf" ({ cls := "CreditShelf", name := "ahead", desc := "()I" } : Jvm.MethodName) ({ cls := "CreditShelf", name := "ahead", desc := "()I" } : Jvm.MethodName)) ∈ lw_all := lw_g (lw_at lw_m4 17 rfl) rfl
theorem q819 : (Jvm.Cond.code ({ cls := "CreditShelf", name := "ahead", desc := "()I" } : Jvm.MethodName) prog_1_method_42_code (1 : Nat) (Option.some Jvm.ClassFile.FieldType.int)) ∈ lw_all := lw_g (lw_at lw_m4 18 rfl) rfl
theorem q820 : (Jvm.Cond.methodLink "CreditShelf" (296 : Nat) ({ cls := "CreditShelf", name := "aheadTold", desc := "()I" } : Jvm.MethodName)) ∈ lw_all := lw_g (lw_at lw_m4 19 rfl) rfl
theorem q821 : (Jvm.Cond.privateMethod ({ cls := "CreditShelf", name := "aheadTold", desc := "()I" } : Jvm.MethodName)) ∈ lw_tbl := lw_at lw_m4 20 rfl
theorem q822 : (Jvm.Cond.instanceMethod ({ cls := "CreditShelf", name := "aheadTold", desc := "()I" } : Jvm.MethodName)) ∈ lw_all := lw_g (lw_at lw_m4 21 rfl) rfl
theorem q823 : (Jvm.Cond.code ({ cls := "CreditShelf", name := "aheadTold", desc := "()I" } : Jvm.MethodName) prog_1_method_41_code (3 : Nat) (Option.some Jvm.ClassFile.FieldType.int)) ∈ lw_all := lw_g (lw_at lw_m4 22 rfl) rfl
theorem q824 : (Jvm.Cond.methodLink "CreditShelf" (289 : Nat) ({ cls := "CreditShelf$Tree", name := "like", desc := "(LCreditShelf$Tree;)LCreditShelf$Tree;" } : Jvm.MethodName)) ∈ lw_all := lw_g (lw_at lw_m4 23 rfl) rfl
theorem q829 : (Jvm.Cond.static ({ cls := "CreditShelf", name := "copyOf", desc := "(LCreditShelf$Entry;)LCreditShelf$Entry;" } : Jvm.MethodName)) ∈ lw_all := lw_g (lw_at lw_m4 28 rfl) rfl
theorem q830 : (Jvm.Cond.code ({ cls := "CreditShelf", name := "copyOf", desc := "(LCreditShelf$Entry;)LCreditShelf$Entry;" } : Jvm.MethodName) prog_1_method_8_code (2 : Nat) (Option.some (Jvm.ClassFile.FieldType.object "CreditShelf$Entry"))) ∈ lw_all := lw_g (lw_at lw_m4 29 rfl) rfl
theorem q831 : (Jvm.Cond.methodLink "CreditShelf" (107 : Nat) ({ cls := "CreditShelf", name := "copyOf", desc := "(LCreditShelf$Entry;)LCreditShelf$Entry;" } : Jvm.MethodName)) ∈ lw_all := lw_g (lw_at lw_m4 30 rfl) rfl
theorem q832 : (Jvm.Cond.methodLinkNest "CreditShelf" (293 : Nat) ({ cls := "CreditShelf$Tree", name := "leastOf", desc := "(LCreditShelf$Entry;)LCreditShelf$Entry;" } : Jvm.MethodName) "CreditShelf") ∈ lw_tbl := lw_at lw_m4 31 rfl
theorem q834 : (Jvm.Cond.instanceMethod ({ cls := "CreditShelf", name := "see", desc := "(IIZ)I" } : Jvm.MethodName)) ∈ lw_all := lw_g (lw_at lw_m4 33 rfl) rfl
theorem q835 : (Jvm.Cond.selects "CreditShelf" ({ cls := "CreditShelf", name := "see", desc := "(IIZ)I" } : Jvm.MethodName) ({ cls := "CreditShelf", name := "see", desc := "(IIZ)I" } : Jvm.MethodName)) ∈ lw_all := lw_g (lw_at lw_m4 34 rfl) rfl
theorem q836 : (Jvm.Cond.code ({ cls := "CreditShelf", name := "see", desc := "(IIZ)I" } : Jvm.MethodName) prog_1_method_43_code (4 : Nat) (Option.some Jvm.ClassFile.FieldType.int)) ∈ lw_all := lw_g (lw_at lw_m4 35 rfl) rfl
theorem q838 : (Jvm.Cond.instanceMethod ({ cls := "CreditShelf", name := "forget", desc := "()I" } : Jvm.MethodName)) ∈ lw_all := lw_g (lw_at lw_m4 37 rfl) rfl
theorem q839 : (Jvm.Cond.selects "CreditShelf" ({ cls := "CreditShelf", name := "forget", desc := "()I" } : Jvm.MethodName) ({ cls := "CreditShelf", name := "forget", desc := "()I" } : Jvm.MethodName)) ∈ lw_all := lw_g (lw_at lw_m4 38 rfl) rfl
theorem q840 : (Jvm.Cond.code ({ cls := "CreditShelf", name := "forget", desc := "()I" } : Jvm.MethodName) prog_1_method_44_code (2 : Nat) (Option.some Jvm.ClassFile.FieldType.int)) ∈ lw_all := lw_g (lw_at lw_m4 39 rfl) rfl
theorem q842 : (Jvm.Cond.instanceMethod ({ cls := "CreditShelf", name := "sorts", desc := "(II)I" } : Jvm.MethodName)) ∈ lw_all := lw_g (lw_at lw_m4 41 rfl) rfl
theorem q843 : (Jvm.Cond.selects "CreditShelf" ({ cls := "CreditShelf", name := "sorts", desc := "(II)I" } : Jvm.MethodName) ({ cls := "CreditShelf", name := "sorts", desc := "(II)I" } : Jvm.MethodName)) ∈ lw_all := lw_g (lw_at lw_m4 42 rfl) rfl
theorem q844 : (Jvm.Cond.code ({ cls := "CreditShelf", name := "sorts", desc := "(II)I" } : Jvm.MethodName) prog_1_method_48_code (3 : Nat) (Option.some Jvm.ClassFile.FieldType.int)) ∈ lw_all := lw_g (lw_at lw_m4 43 rfl) rfl
theorem q845 : (Jvm.Cond.methodLink "CreditShelf" (309 : Nat) ({ cls := "CreditShelf", name := "sortsOf", desc := "(I)I" } : Jvm.MethodName)) ∈ lw_all := lw_g (lw_at lw_m4 44 rfl) rfl
theorem q846 : (Jvm.Cond.privateMethod ({ cls := "CreditShelf", name := "sortsOf", desc := "(I)I" } : Jvm.MethodName)) ∈ lw_tbl := lw_at lw_m4 45 rfl
theorem q847 : (Jvm.Cond.instanceMethod ({ cls := "CreditShelf", name := "sortsOf", desc := "(I)I" } : Jvm.MethodName)) ∈ lw_all := lw_g (lw_at lw_m4 46 rfl) rfl
theorem q848 : (Jvm.Cond.code ({ cls := "CreditShelf", name := "sortsOf", desc := "(I)I" } : Jvm.MethodName) prog_1_method_46_code (6 : Nat) (Option.some Jvm.ClassFile.FieldType.int)) ∈ lw_all := lw_g (lw_at lw_m4 47 rfl) rfl
theorem q849 : (Jvm.Cond.methodLink "CreditShelf" (306 : Nat) ({ cls := "CreditShelf", name := "wouldDo", desc := "(II)Z" } : Jvm.MethodName)) ∈ lw_all := lw_g (lw_at lw_m4 48 rfl) rfl
theorem q850 : (Jvm.Cond.privateMethod ({ cls := "CreditShelf", name := "wouldDo", desc := "(II)Z" } : Jvm.MethodName)) ∈ lw_tbl := lw_at lw_m4 49 rfl
theorem q851 : (Jvm.Cond.instanceMethod ({ cls := "CreditShelf", name := "wouldDo", desc := "(II)Z" } : Jvm.MethodName)) ∈ lw_all := lw_g (lw_at lw_m4 50 rfl) rfl
theorem q852 : (Jvm.Cond.code ({ cls := "CreditShelf", name := "wouldDo", desc := "(II)Z" } : Jvm.MethodName) prog_1_method_45_code (3 : Nat) (Option.some Jvm.ClassFile.FieldType.boolean)) ∈ lw_all := lw_g (lw_at lw_m4 51 rfl) rfl
theorem q853 : (Jvm.Cond.methodLink "CreditShelf" (299 : Nat) ({ cls := "java/util/ArrayList", name := "add", desc := "(Ljava/lang/Object;)Z" } : Jvm.MethodName)) ∈ lw_all := lw_g (lw_at lw_m4 52 rfl) rfl
theorem q854 : (Jvm.Cond.methodLink "CreditShelf" (303 : Nat) ({ cls := "CreditShelf$Entry", name := "could", desc := "(I)Z" } : Jvm.MethodName)) ∈ lw_all := lw_g (lw_at lw_m4 53 rfl) rfl
theorem q867 : (Jvm.Cond.methodLink "CreditShelf" (321 : Nat) ({ cls := "CreditShelf", name := "askOf", desc := "(I)I" } : Jvm.MethodName)) ∈ lw_all := lw_g (lw_at lw_m4 66 rfl) rfl
theorem q868 : (Jvm.Cond.privateMethod ({ cls := "CreditShelf", name := "askOf", desc := "(I)I" } : Jvm.MethodName)) ∈ lw_tbl := lw_at lw_m4 67 rfl
theorem q869 : (Jvm.Cond.instanceMethod ({ cls := "CreditShelf", name := "askOf", desc := "(I)I" } : Jvm.MethodName)) ∈ lw_all := lw_g (lw_at lw_m4 68 rfl) rfl
theorem q870 : (Jvm.Cond.code ({ cls := "CreditShelf", name := "askOf", desc := "(I)I" } : Jvm.MethodName) prog_1_method_47_code (8 : Nat) (Option.some Jvm.ClassFile.FieldType.int)) ∈ lw_all := lw_g (lw_at lw_m4 69 rfl) rfl
theorem q871 : (Jvm.Cond.constant "CreditShelf" (312 : Nat) (1048576 : Int32)) ∈ lw_all := lw_g (lw_at lw_m4 70 rfl) rfl
theorem q872 : (Jvm.Cond.methodLink "CreditShelf" (313 : Nat) ({ cls := "CreditShelf", name := "isIn", desc := "(II)Z" } : Jvm.MethodName)) ∈ lw_all := lw_g (lw_at lw_m4 71 rfl) rfl
theorem q873 : (Jvm.Cond.static ({ cls := "CreditShelf", name := "isIn", desc := "(II)Z" } : Jvm.MethodName)) ∈ lw_all := lw_g (lw_at lw_m4 72 rfl) rfl
theorem q874 : (Jvm.Cond.code ({ cls := "CreditShelf", name := "isIn", desc := "(II)Z" } : Jvm.MethodName) prog_1_method_2_code (2 : Nat) (Option.some Jvm.ClassFile.FieldType.boolean)) ∈ lw_all := lw_g (lw_at lw_m4 73 rfl) rfl
theorem q875 : (Jvm.Cond.methodLink "CreditShelf" (316 : Nat) ({ cls := "java/lang/Integer", name := "bitCount", desc := "(I)I" } : Jvm.MethodName)) ∈ lw_all := lw_g (lw_at lw_m4 74 rfl) rfl
theorem q882 : (Jvm.Cond.instanceMethod ({ cls := "CreditShelf", name := "drawn", desc := "(III)I" } : Jvm.MethodName)) ∈ lw_all := lw_g (lw_at lw_m4 81 rfl) rfl
theorem q883 : (Jvm.Cond.selects "CreditShelf" ({ cls := "CreditShelf", name := "drawn", desc := "(III)I" } : Jvm.MethodName) ({ cls := "CreditShelf", name := "drawn", desc := "(III)I" } : Jvm.MethodName)) ∈ lw_all := lw_g (lw_at lw_m4 82 rfl) rfl
theorem q884 : (Jvm.Cond.code ({ cls := "CreditShelf", name := "drawn", desc := "(III)I" } : Jvm.MethodName) prog_1_method_51_code (4 : Nat) (Option.some Jvm.ClassFile.FieldType.int)) ∈ lw_all := lw_g (lw_at lw_m4 83 rfl) rfl
theorem q885 : (Jvm.Cond.methodLink "CreditShelf" (339 : Nat) ({ cls := "CreditShelf", name := "drawnTold", desc := "(III)I" } : Jvm.MethodName)) ∈ lw_all := lw_g (lw_at lw_m4 84 rfl) rfl
theorem q886 : (Jvm.Cond.privateMethod ({ cls := "CreditShelf", name := "drawnTold", desc := "(III)I" } : Jvm.MethodName)) ∈ lw_tbl := lw_at lw_m4 85 rfl
theorem q887 : (Jvm.Cond.instanceMethod ({ cls := "CreditShelf", name := "drawnTold", desc := "(III)I" } : Jvm.MethodName)) ∈ lw_all := lw_g (lw_at lw_m4 86 rfl) rfl
theorem q888 : (Jvm.Cond.code ({ cls := "CreditShelf", name := "drawnTold", desc := "(III)I" } : Jvm.MethodName) prog_1_method_50_code (8 : Nat) (Option.some Jvm.ClassFile.FieldType.int)) ∈ lw_all := lw_g (lw_at lw_m4 87 rfl) rfl
theorem q889 : (Jvm.Cond.methodLink "CreditShelf" (336 : Nat) ({ cls := "CreditShelf", name := "draw", desc := "(I)I" } : Jvm.MethodName)) ∈ lw_all := lw_g (lw_at lw_m4 88 rfl) rfl
theorem q890 : (Jvm.Cond.privateMethod ({ cls := "CreditShelf", name := "draw", desc := "(I)I" } : Jvm.MethodName)) ∈ lw_tbl := lw_at lw_m4 89 rfl
theorem q891 : (Jvm.Cond.instanceMethod ({ cls := "CreditShelf", name := "draw", desc := "(I)I" } : Jvm.MethodName)) ∈ lw_all := lw_g (lw_at lw_m4 90 rfl) rfl
theorem q892 : (Jvm.Cond.code ({ cls := "CreditShelf", name := "draw", desc := "(I)I" } : Jvm.MethodName) prog_1_method_49_code (2 : Nat) (Option.some Jvm.ClassFile.FieldType.int)) ∈ lw_all := lw_g (lw_at lw_m4 91 rfl) rfl
theorem q893 : (Jvm.Cond.constantLong "CreditShelf" (324 : Nat) (1103515245 : Int64)) ∈ lw_all := lw_g (lw_at lw_m4 92 rfl) rfl
theorem q894 : (Jvm.Cond.constantLong "CreditShelf" (330 : Nat) (12345 : Int64)) ∈ lw_all := lw_g (lw_at lw_m4 93 rfl) rfl
theorem q895 : (Jvm.Cond.constantLong "CreditShelf" (332 : Nat) (2147483647 : Int64)) ∈ lw_all := lw_g (lw_at lw_m4 94 rfl) rfl
theorem q896 : (Jvm.Cond.constantLong "CreditShelf" (334 : Nat) (65536 : Int64)) ∈ lw_all := lw_g (lw_at lw_m4 95 rfl) rfl
theorem q898 : (Jvm.Cond.instanceMethod ({ cls := "CreditShelf", name := "image", desc := "()I" } : Jvm.MethodName)) ∈ lw_all := lw_g (lw_at lw_m4 97 rfl) rfl
theorem q899 : (Jvm.Cond.selects "CreditShelf" ({ cls := "CreditShelf", name := "image", desc := "()I" } : Jvm.MethodName) ({ cls := "CreditShelf", name := "image", desc := "()I" } : Jvm.MethodName)) ∈ lw_all := lw_g (lw_at lw_m4 98 rfl) rfl
theorem q900 : (Jvm.Cond.code ({ cls := "CreditShelf", name := "image", desc := "()I" } : Jvm.MethodName) prog_1_method_52_code (2 : Nat) (Option.some Jvm.ClassFile.FieldType.int)) ∈ lw_all := lw_g (lw_at lw_m4 99 rfl) rfl
theorem q902 : (Jvm.Cond.instanceMethod ({ cls := "CreditShelf", name := "restore", desc := "()I" } : Jvm.MethodName)) ∈ lw_all := lw_g (lw_at lw_m4 101 rfl) rfl
theorem q903 : (Jvm.Cond.selects "CreditShelf" ({ cls := "CreditShelf", name := "restore", desc := "()I" } : Jvm.MethodName) ({ cls := "CreditShelf", name := "restore", desc := "()I" } : Jvm.MethodName)) ∈ lw_all := lw_g (lw_at lw_m4 102 rfl) rfl
theorem q904 : (Jvm.Cond.code ({ cls := "CreditShelf", name := "restore", desc := "()I" } : Jvm.MethodName) prog_1_method_53_code (2 : Nat) (Option.some Jvm.ClassFile.FieldType.int)) ∈ lw_all := lw_g (lw_at lw_m4 103 rfl) rfl
theorem q906 : (Jvm.Cond.instanceMethod ({ cls := "CreditShelf", name := "count", desc := "(I)I" } : Jvm.MethodName)) ∈ lw_all := lw_g (lw_at lw_m4 105 rfl) rfl
theorem q907 : (Jvm.Cond.selects "CreditShelf" ({ cls := "CreditShelf", name := "count", desc := "(I)I" } : Jvm.MethodName) ({ cls := "CreditShelf", name := "count", desc := "(I)I" } : Jvm.MethodName)) ∈ lw_all := lw_g (lw_at lw_m4 106 rfl) rfl
theorem q908 : (Jvm.Cond.code ({ cls := "CreditShelf", name := "count", desc := "(I)I" } : Jvm.MethodName) prog_1_method_55_code (2 : Nat) (Option.some Jvm.ClassFile.FieldType.int)) ∈ lw_all := lw_g (lw_at lw_m4 107 rfl) rfl
theorem q909 : (Jvm.Cond.methodLink "CreditShelf" (356 : Nat) ({ cls := "CreditShelf", name := "countOf", desc := "(I)I" } : Jvm.MethodName)) ∈ lw_all := lw_g (lw_at lw_m4 108 rfl) rfl
theorem q910 : (Jvm.Cond.privateMethod ({ cls := "CreditShelf", name := "countOf", desc := "(I)I" } : Jvm.MethodName)) ∈ lw_tbl := lw_at lw_m4 109 rfl
theorem q911 : (Jvm.Cond.instanceMethod ({ cls := "CreditShelf", name := "countOf", desc := "(I)I" } : Jvm.MethodName)) ∈ lw_all := lw_g (lw_at lw_m4 110 rfl) rfl
theorem q912 : (Jvm.Cond.code ({ cls := "CreditShelf", name := "countOf", desc := "(I)I" } : Jvm.MethodName) prog_1_method_54_code (2 : Nat) (Option.some Jvm.ClassFile.FieldType.int)) ∈ lw_all := lw_g (lw_at lw_m4 111 rfl) rfl
theorem q914 : (Jvm.Cond.instanceMethod ({ cls := "CreditShelf", name := "digest", desc := "()J" } : Jvm.MethodName)) ∈ lw_all := lw_g (lw_at lw_m4 113 rfl) rfl
theorem q915 : (Jvm.Cond.selects "CreditShelf" ({ cls := "CreditShelf", name := "digest", desc := "()J" } : Jvm.MethodName) ({ cls := "CreditShelf", name := "digest", desc := "()J" } : Jvm.MethodName)) ∈ lw_all := lw_g (lw_at lw_m4 114 rfl) rfl
theorem q916 : (Jvm.Cond.code ({ cls := "CreditShelf", name := "digest", desc := "()J" } : Jvm.MethodName) prog_1_method_59_code (4 : Nat) (Option.some Jvm.ClassFile.FieldType.long)) ∈ lw_all := lw_g (lw_at lw_m4 115 rfl) rfl
theorem q917 : (Jvm.Cond.constantLong "CreditShelf" (367 : Nat) (1373 : Int64)) ∈ lw_all := lw_g (lw_at lw_m4 116 rfl) rfl
theorem q918 : (Jvm.Cond.methodLink "CreditShelf" (369 : Nat) ({ cls := "CreditShelf", name := "mixedEntries", desc := "(J)J" } : Jvm.MethodName)) ∈ lw_all := lw_g (lw_at lw_m4 117 rfl) rfl
theorem q919 : (Jvm.Cond.privateMethod ({ cls := "CreditShelf", name := "mixedEntries", desc := "(J)J" } : Jvm.MethodName)) ∈ lw_tbl := lw_at lw_m4 118 rfl
theorem q920 : (Jvm.Cond.instanceMethod ({ cls := "CreditShelf", name := "mixedEntries", desc := "(J)J" } : Jvm.MethodName)) ∈ lw_all := lw_g (lw_at lw_m4 119 rfl) rfl
theorem q921 : (Jvm.Cond.code ({ cls := "CreditShelf", name := "mixedEntries", desc := "(J)J" } : Jvm.MethodName) prog_1_method_57_code (7 : Nat) (Option.some Jvm.ClassFile.FieldType.long)) ∈ lw_all := lw_g (lw_at lw_m4 120 rfl) rfl
theorem q922 : (Jvm.Cond.methodLink "CreditShelf" (361 : Nat) ({ cls := "CreditShelf", name := "mixed", desc := "(JJ)J" } : Jvm.MethodName)) ∈ lw_all := lw_g (lw_at lw_m4 121 rfl) rfl
theorem q923 : (Jvm.Cond.static ({ cls := "CreditShelf", name := "mixed", desc := "(JJ)J" } : Jvm.MethodName)) ∈ lw_all := lw_g (lw_at lw_m4 122 rfl) rfl
theorem q924 : (Jvm.Cond.code ({ cls := "CreditShelf", name := "mixed", desc := "(JJ)J" } : Jvm.MethodName) prog_1_method_56_code (4 : Nat) (Option.some Jvm.ClassFile.FieldType.long)) ∈ lw_all := lw_g (lw_at lw_m4 123 rfl) rfl
theorem q925 : (Jvm.Cond.constantLong "CreditShelf" (359 : Nat) (31 : Int64)) ∈ lw_all := lw_g (lw_at lw_m4 124 rfl) rfl
theorem q926 : (Jvm.Cond.methodLink "CreditShelf" (373 : Nat) ({ cls := "CreditShelf", name := "mixedShelf", desc := "(J)J" } : Jvm.MethodName)) ∈ lw_all := lw_g (lw_at lw_m4 125 rfl) rfl
theorem q927 : (Jvm.Cond.privateMethod ({ cls := "CreditShelf", name := "mixedShelf", desc := "(J)J" } : Jvm.MethodName)) ∈ lw_tbl := lw_at lw_m4 126 rfl
theorem q928 : (Jvm.Cond.instanceMethod ({ cls := "CreditShelf", name := "mixedShelf", desc := "(J)J" } : Jvm.MethodName)) ∈ lw_all := lw_g (lw_at lw_m4 127 rfl) rfl
theorem q929 : (Jvm.Cond.code ({ cls := "CreditShelf", name := "mixedShelf", desc := "(J)J" } : Jvm.MethodName) prog_1_method_58_code (6 : Nat) (Option.some Jvm.ClassFile.FieldType.long)) ∈ lw_all := lw_g (lw_at lw_m4 128 rfl) rfl
theorem q930 : (Jvm.Cond.constantLong "CreditShelf" (365 : Nat) (-1 : Int64)) ∈ lw_all := lw_g (lw_at lw_m4 129 rfl) rfl
theorem q1407 : (Jvm.Cond.castable "CreditShelf" "java/lang/Object") ∈ lw_tbl := lw_at lw_m6 126 rfl
theorem in_X0 : ∀ w ∈ wsX00, w ∈ lw_all := lw_in wsX00 [210, 212, 214, 216, 218, 220, 222, 224, 226, 228, 230, 232, 234, 236, 238, 240, 242, 244, 246, 248] (by decide +kernel) (by decide +kernel)

/-! CreditShelf$Tree -/
set_option maxRecDepth 100000
def RX1 : String := "CreditShelf$Tree"
def TX1 : u_T := fun k => match k with
  | 0 => ("CreditShelf$Tree", "top", "LCreditShelf$Entry;", false)
  | 1 => ("CreditShelf$Tree", "a", "I", false)
  | 2 => ("CreditShelf$Tree", "b", "I", false)
  | 3 => ("CreditShelf$Tree", "fee", "I", false)
  | 4 => ("CreditShelf$Tree", "many", "I", false)
  | 5 => ("CreditShelf$Tree", "most", "I", false)
  | 6 => ("CreditShelf$Tree", "credit", "I", false)
  | 7 => ("CreditShelf$Tree", "lowest", "I", false)
  | 8 => ("CreditShelf$Tree", "buildings", "I", false)
  | _ => ("CreditShelf$Tree", "cost", "I", false)
def tyX1 : Nat → FieldType := fun k => match k with
  | 0 => .object "CreditShelf$Entry"
  | 1 => .int
  | 2 => .int
  | 3 => .int
  | 4 => .int
  | 5 => .int
  | 6 => .int
  | 7 => .int
  | 8 => .int
  | _ => .int
abbrev wsX10 : List Cond := u_ws RX1 TX1 10
theorem nmX1 : ∀ a, a < 10 → ∀ b, b < 10 → a ≠ b → (TX1 a).2.1 ≠ (TX1 b).2.1 := by decide +kernel
theorem tyX1_ok : ∀ k, k < 10 → parseFieldDescriptor (TX1 k).2.2.1 = some (tyX1 k) := by decide +kernel
abbrev cX1_init : ByteArray := prog_9_method_1_code
def yX1_init : MethodName := ⟨RX1, "<init>", "()V"⟩
theorem dX1_init_0 : decode cX1_init 0 = .ok (.aload_n 0, 1) := by decide +kernel
theorem dX1_init_1 : decode cX1_init 1 = .ok (.invokespecial 1, 3) := by decide +kernel
theorem dX1_init_4 : decode cX1_init 4 = .ok (.return_, 1) := by decide +kernel
abbrev cX1_empty : ByteArray := prog_9_method_3_code
def yX1_empty : MethodName := ⟨RX1, "empty", "(III)LCreditShelf$Tree;"⟩
def dkwX1_empty_0 : List UInt8 := [42, 27, 181, 0, 19, 42, 28, 181, 0, 23, 42, 29, 181, 0, 26, 42, 176]
abbrev dktX1_empty_0 : List UInt8 := dkwX1_empty_0 ++ []
theorem dksX1_empty_0 : cX1_empty.data.toList.drop 0 = dktX1_empty_0 := by decide +kernel
theorem dX1_empty_0 : decode cX1_empty 0 = .ok (.aload_n 0, 1) := dk_42 (dk_at dksX1_empty_0 0 rfl rfl)
theorem dX1_empty_1 : decode cX1_empty 1 = .ok (.iload_n 1, 1) := dk_27 (dk_at dksX1_empty_0 1 rfl rfl)
theorem dX1_empty_2 : decode cX1_empty 2 = .ok (.putfield 19, 3) := dk_181 0 19 (dk_at dksX1_empty_0 2 rfl rfl)
theorem dX1_empty_5 : decode cX1_empty 5 = .ok (.aload_n 0, 1) := dk_42 (dk_at dksX1_empty_0 5 rfl rfl)
theorem dX1_empty_6 : decode cX1_empty 6 = .ok (.iload_n 2, 1) := dk_28 (dk_at dksX1_empty_0 6 rfl rfl)
theorem dX1_empty_7 : decode cX1_empty 7 = .ok (.putfield 23, 3) := dk_181 0 23 (dk_at dksX1_empty_0 7 rfl rfl)
theorem dX1_empty_10 : decode cX1_empty 10 = .ok (.aload_n 0, 1) := dk_42 (dk_at dksX1_empty_0 10 rfl rfl)
theorem dX1_empty_11 : decode cX1_empty 11 = .ok (.iload_n 3, 1) := dk_29 (dk_at dksX1_empty_0 11 rfl rfl)
theorem dX1_empty_12 : decode cX1_empty 12 = .ok (.putfield 26, 3) := dk_181 0 26 (dk_at dksX1_empty_0 12 rfl rfl)
theorem dX1_empty_15 : decode cX1_empty 15 = .ok (.aload_n 0, 1) := dk_42 (dk_at dksX1_empty_0 15 rfl rfl)
theorem dX1_empty_16 : decode cX1_empty 16 = .ok (.areturn, 1) := dk_176 (dk_at dksX1_empty_0 16 rfl rfl)
abbrev cX1_put : ByteArray := prog_9_method_13_code
def yX1_put : MethodName := ⟨RX1, "put", "(LCreditShelf$Entry;)I"⟩
def dkwX1_put_8 : List UInt8 := [132, 4, 255, 167, 255, 198, 3, 172]
abbrev dktX1_put_8 : List UInt8 := dkwX1_put_8 ++ []
def dkwX1_put_7 : List UInt8 := [44, 21, 4, 4, 100, 182, 0, 75, 192, 0, 48, 44, 21, 4, 182, 0, 75, 192, 0, 48, 182, 0, 114, 172]
abbrev dktX1_put_7 : List UInt8 := dkwX1_put_7 ++ dktX1_put_8
def dkwX1_put_6 : List UInt8 := [21, 4, 182, 0, 75, 192, 0, 48, 182, 0, 110, 153, 0, 37, 42, 21, 4, 154, 0, 7, 1, 167, 0, 14]
abbrev dktX1_put_6 : List UInt8 := dkwX1_put_6 ++ dktX1_put_7
def dkwX1_put_5 : List UInt8 := [180, 0, 29, 182, 0, 106, 163, 0, 5, 3, 172, 29, 4, 100, 54, 4, 21, 4, 155, 0, 59, 42, 44]
abbrev dktX1_put_5 : List UInt8 := dkwX1_put_5 ++ dktX1_put_6
def dkwX1_put_4 : List UInt8 := [180, 0, 29, 184, 0, 99, 181, 0, 32, 42, 42, 180, 0, 26, 29, 4, 96, 104, 182, 0, 91, 29, 42, 42]
abbrev dktX1_put_4 : List UInt8 := dkwX1_put_4 ++ dktX1_put_5
def dkwX1_put_3 : List UInt8 := [192, 0, 48, 43, 181, 0, 55, 42, 89, 180, 0, 29, 4, 96, 181, 0, 29, 42, 42, 180, 0, 32, 42]
abbrev dktX1_put_3 : List UInt8 := dkwX1_put_3 ++ dktX1_put_4
def dkwX1_put_2 : List UInt8 := [29, 4, 100, 182, 0, 75, 192, 0, 48, 43, 181, 0, 52, 167, 0, 17, 44, 29, 4, 100, 182, 0, 75]
abbrev dktX1_put_2 : List UInt8 := dkwX1_put_2 ++ dktX1_put_3
def dkwX1_put_1 : List UInt8 := [167, 0, 54, 43, 180, 0, 47, 44, 29, 4, 100, 182, 0, 75, 192, 0, 48, 180, 0, 47, 162, 0, 20, 44]
abbrev dktX1_put_1 : List UInt8 := dkwX1_put_1 ++ dktX1_put_2
def dkwX1_put_0 : List UInt8 := [42, 43, 180, 0, 47, 182, 0, 102, 77, 44, 182, 0, 83, 62, 29, 154, 0, 11, 42, 43, 181, 0, 7]
abbrev dktX1_put_0 : List UInt8 := dkwX1_put_0 ++ dktX1_put_1
theorem dksX1_put_0 : cX1_put.data.toList.drop 0 = dktX1_put_0 := by decide +kernel
theorem dksX1_put_1 : cX1_put.data.toList.drop 23 = dktX1_put_1 := dk_seg dksX1_put_0 23 rfl rfl
theorem dksX1_put_2 : cX1_put.data.toList.drop 47 = dktX1_put_2 := dk_seg dksX1_put_1 24 rfl rfl
theorem dksX1_put_3 : cX1_put.data.toList.drop 70 = dktX1_put_3 := dk_seg dksX1_put_2 23 rfl rfl
theorem dksX1_put_4 : cX1_put.data.toList.drop 93 = dktX1_put_4 := dk_seg dksX1_put_3 23 rfl rfl
theorem dksX1_put_5 : cX1_put.data.toList.drop 117 = dktX1_put_5 := dk_seg dksX1_put_4 24 rfl rfl
theorem dksX1_put_6 : cX1_put.data.toList.drop 140 = dktX1_put_6 := dk_seg dksX1_put_5 23 rfl rfl
theorem dksX1_put_7 : cX1_put.data.toList.drop 164 = dktX1_put_7 := dk_seg dksX1_put_6 24 rfl rfl
theorem dksX1_put_8 : cX1_put.data.toList.drop 188 = dktX1_put_8 := dk_seg dksX1_put_7 24 rfl rfl
theorem dX1_put_0 : decode cX1_put 0 = .ok (.aload_n 0, 1) := dk_42 (dk_at dksX1_put_0 0 rfl rfl)
theorem dX1_put_1 : decode cX1_put 1 = .ok (.aload_n 1, 1) := dk_43 (dk_at dksX1_put_0 1 rfl rfl)
theorem dX1_put_2 : decode cX1_put 2 = .ok (.getfield 47, 3) := dk_180 0 47 (dk_at dksX1_put_0 2 rfl rfl)
theorem dX1_put_5 : decode cX1_put 5 = .ok (.invokevirtual 102, 3) := dk_182 0 102 (dk_at dksX1_put_0 5 rfl rfl)
theorem dX1_put_8 : decode cX1_put 8 = .ok (.astore_n 2, 1) := dk_77 (dk_at dksX1_put_0 8 rfl rfl)
theorem dX1_put_9 : decode cX1_put 9 = .ok (.aload_n 2, 1) := dk_44 (dk_at dksX1_put_0 9 rfl rfl)
theorem dX1_put_10 : decode cX1_put 10 = .ok (.invokevirtual 83, 3) := dk_182 0 83 (dk_at dksX1_put_0 10 rfl rfl)
theorem dX1_put_13 : decode cX1_put 13 = .ok (.istore_n 3, 1) := dk_62 (dk_at dksX1_put_0 13 rfl rfl)
theorem dX1_put_14 : decode cX1_put 14 = .ok (.iload_n 3, 1) := dk_29 (dk_at dksX1_put_0 14 rfl rfl)
theorem dX1_put_15 : decode cX1_put 15 = .ok (.ifCond .ne 11, 3) := dk_154 0 11 (dk_at dksX1_put_0 15 rfl rfl)
theorem dX1_put_18 : decode cX1_put 18 = .ok (.aload_n 0, 1) := dk_42 (dk_at dksX1_put_0 18 rfl rfl)
theorem dX1_put_19 : decode cX1_put 19 = .ok (.aload_n 1, 1) := dk_43 (dk_at dksX1_put_0 19 rfl rfl)
theorem dX1_put_20 : decode cX1_put 20 = .ok (.putfield 7, 3) := dk_181 0 7 (dk_at dksX1_put_0 20 rfl rfl)
theorem dX1_put_23 : decode cX1_put 23 = .ok (.goto 54, 3) := dk_167 0 54 (dk_at dksX1_put_1 0 rfl rfl)
theorem dX1_put_26 : decode cX1_put 26 = .ok (.aload_n 1, 1) := dk_43 (dk_at dksX1_put_1 3 rfl rfl)
theorem dX1_put_27 : decode cX1_put 27 = .ok (.getfield 47, 3) := dk_180 0 47 (dk_at dksX1_put_1 4 rfl rfl)
theorem dX1_put_30 : decode cX1_put 30 = .ok (.aload_n 2, 1) := dk_44 (dk_at dksX1_put_1 7 rfl rfl)
theorem dX1_put_31 : decode cX1_put 31 = .ok (.iload_n 3, 1) := dk_29 (dk_at dksX1_put_1 8 rfl rfl)
theorem dX1_put_32 : decode cX1_put 32 = .ok (.iconst 1, 1) := dk_4 (dk_at dksX1_put_1 9 rfl rfl)
theorem dX1_put_33 : decode cX1_put 33 = .ok (.isub, 1) := dk_100 (dk_at dksX1_put_1 10 rfl rfl)
theorem dX1_put_34 : decode cX1_put 34 = .ok (.invokevirtual 75, 3) := dk_182 0 75 (dk_at dksX1_put_1 11 rfl rfl)
theorem dX1_put_37 : decode cX1_put 37 = .ok (.checkcast 48, 3) := dk_192 0 48 (dk_at dksX1_put_1 14 rfl rfl)
theorem dX1_put_40 : decode cX1_put 40 = .ok (.getfield 47, 3) := dk_180 0 47 (dk_at dksX1_put_1 17 rfl rfl)
theorem dX1_put_43 : decode cX1_put 43 = .ok (.if_icmp .ge 20, 3) := dk_162 0 20 (dk_at dksX1_put_1 20 rfl rfl)
theorem dX1_put_46 : decode cX1_put 46 = .ok (.aload_n 2, 1) := dk_44 (dk_at dksX1_put_1 23 rfl rfl)
theorem dX1_put_47 : decode cX1_put 47 = .ok (.iload_n 3, 1) := dk_29 (dk_at dksX1_put_2 0 rfl rfl)
theorem dX1_put_48 : decode cX1_put 48 = .ok (.iconst 1, 1) := dk_4 (dk_at dksX1_put_2 1 rfl rfl)
theorem dX1_put_49 : decode cX1_put 49 = .ok (.isub, 1) := dk_100 (dk_at dksX1_put_2 2 rfl rfl)
theorem dX1_put_50 : decode cX1_put 50 = .ok (.invokevirtual 75, 3) := dk_182 0 75 (dk_at dksX1_put_2 3 rfl rfl)
theorem dX1_put_53 : decode cX1_put 53 = .ok (.checkcast 48, 3) := dk_192 0 48 (dk_at dksX1_put_2 6 rfl rfl)
theorem dX1_put_56 : decode cX1_put 56 = .ok (.aload_n 1, 1) := dk_43 (dk_at dksX1_put_2 9 rfl rfl)
theorem dX1_put_57 : decode cX1_put 57 = .ok (.putfield 52, 3) := dk_181 0 52 (dk_at dksX1_put_2 10 rfl rfl)
theorem dX1_put_60 : decode cX1_put 60 = .ok (.goto 17, 3) := dk_167 0 17 (dk_at dksX1_put_2 13 rfl rfl)
theorem dX1_put_63 : decode cX1_put 63 = .ok (.aload_n 2, 1) := dk_44 (dk_at dksX1_put_2 16 rfl rfl)
theorem dX1_put_64 : decode cX1_put 64 = .ok (.iload_n 3, 1) := dk_29 (dk_at dksX1_put_2 17 rfl rfl)
theorem dX1_put_65 : decode cX1_put 65 = .ok (.iconst 1, 1) := dk_4 (dk_at dksX1_put_2 18 rfl rfl)
theorem dX1_put_66 : decode cX1_put 66 = .ok (.isub, 1) := dk_100 (dk_at dksX1_put_2 19 rfl rfl)
theorem dX1_put_67 : decode cX1_put 67 = .ok (.invokevirtual 75, 3) := dk_182 0 75 (dk_at dksX1_put_2 20 rfl rfl)
theorem dX1_put_70 : decode cX1_put 70 = .ok (.checkcast 48, 3) := dk_192 0 48 (dk_at dksX1_put_3 0 rfl rfl)
theorem dX1_put_73 : decode cX1_put 73 = .ok (.aload_n 1, 1) := dk_43 (dk_at dksX1_put_3 3 rfl rfl)
theorem dX1_put_74 : decode cX1_put 74 = .ok (.putfield 55, 3) := dk_181 0 55 (dk_at dksX1_put_3 4 rfl rfl)
theorem dX1_put_77 : decode cX1_put 77 = .ok (.aload_n 0, 1) := dk_42 (dk_at dksX1_put_3 7 rfl rfl)
theorem dX1_put_78 : decode cX1_put 78 = .ok (.dup, 1) := dk_89 (dk_at dksX1_put_3 8 rfl rfl)
theorem dX1_put_79 : decode cX1_put 79 = .ok (.getfield 29, 3) := dk_180 0 29 (dk_at dksX1_put_3 9 rfl rfl)
theorem dX1_put_82 : decode cX1_put 82 = .ok (.iconst 1, 1) := dk_4 (dk_at dksX1_put_3 12 rfl rfl)
theorem dX1_put_83 : decode cX1_put 83 = .ok (.iadd, 1) := dk_96 (dk_at dksX1_put_3 13 rfl rfl)
theorem dX1_put_84 : decode cX1_put 84 = .ok (.putfield 29, 3) := dk_181 0 29 (dk_at dksX1_put_3 14 rfl rfl)
theorem dX1_put_87 : decode cX1_put 87 = .ok (.aload_n 0, 1) := dk_42 (dk_at dksX1_put_3 17 rfl rfl)
theorem dX1_put_88 : decode cX1_put 88 = .ok (.aload_n 0, 1) := dk_42 (dk_at dksX1_put_3 18 rfl rfl)
theorem dX1_put_89 : decode cX1_put 89 = .ok (.getfield 32, 3) := dk_180 0 32 (dk_at dksX1_put_3 19 rfl rfl)
theorem dX1_put_92 : decode cX1_put 92 = .ok (.aload_n 0, 1) := dk_42 (dk_at dksX1_put_3 22 rfl rfl)
theorem dX1_put_93 : decode cX1_put 93 = .ok (.getfield 29, 3) := dk_180 0 29 (dk_at dksX1_put_4 0 rfl rfl)
theorem dX1_put_96 : decode cX1_put 96 = .ok (.invokestatic 99, 3) := dk_184 0 99 (dk_at dksX1_put_4 3 rfl rfl)
theorem dX1_put_99 : decode cX1_put 99 = .ok (.putfield 32, 3) := dk_181 0 32 (dk_at dksX1_put_4 6 rfl rfl)
theorem dX1_put_102 : decode cX1_put 102 = .ok (.aload_n 0, 1) := dk_42 (dk_at dksX1_put_4 9 rfl rfl)
theorem dX1_put_103 : decode cX1_put 103 = .ok (.aload_n 0, 1) := dk_42 (dk_at dksX1_put_4 10 rfl rfl)
theorem dX1_put_104 : decode cX1_put 104 = .ok (.getfield 26, 3) := dk_180 0 26 (dk_at dksX1_put_4 11 rfl rfl)
theorem dX1_put_107 : decode cX1_put 107 = .ok (.iload_n 3, 1) := dk_29 (dk_at dksX1_put_4 14 rfl rfl)
theorem dX1_put_108 : decode cX1_put 108 = .ok (.iconst 1, 1) := dk_4 (dk_at dksX1_put_4 15 rfl rfl)
theorem dX1_put_109 : decode cX1_put 109 = .ok (.iadd, 1) := dk_96 (dk_at dksX1_put_4 16 rfl rfl)
theorem dX1_put_110 : decode cX1_put 110 = .ok (.imul, 1) := dk_104 (dk_at dksX1_put_4 17 rfl rfl)
theorem dX1_put_111 : decode cX1_put 111 = .ok (.invokevirtual 91, 3) := dk_182 0 91 (dk_at dksX1_put_4 18 rfl rfl)
theorem dX1_put_114 : decode cX1_put 114 = .ok (.iload_n 3, 1) := dk_29 (dk_at dksX1_put_4 21 rfl rfl)
theorem dX1_put_115 : decode cX1_put 115 = .ok (.aload_n 0, 1) := dk_42 (dk_at dksX1_put_4 22 rfl rfl)
theorem dX1_put_116 : decode cX1_put 116 = .ok (.aload_n 0, 1) := dk_42 (dk_at dksX1_put_4 23 rfl rfl)
theorem dX1_put_117 : decode cX1_put 117 = .ok (.getfield 29, 3) := dk_180 0 29 (dk_at dksX1_put_5 0 rfl rfl)
theorem dX1_put_120 : decode cX1_put 120 = .ok (.invokevirtual 106, 3) := dk_182 0 106 (dk_at dksX1_put_5 3 rfl rfl)
theorem dX1_put_123 : decode cX1_put 123 = .ok (.if_icmp .gt 5, 3) := dk_163 0 5 (dk_at dksX1_put_5 6 rfl rfl)
theorem dX1_put_126 : decode cX1_put 126 = .ok (.iconst 0, 1) := dk_3 (dk_at dksX1_put_5 9 rfl rfl)
theorem dX1_put_127 : decode cX1_put 127 = .ok (.ireturn, 1) := dk_172 (dk_at dksX1_put_5 10 rfl rfl)
theorem dX1_put_128 : decode cX1_put 128 = .ok (.iload_n 3, 1) := dk_29 (dk_at dksX1_put_5 11 rfl rfl)
theorem dX1_put_129 : decode cX1_put 129 = .ok (.iconst 1, 1) := dk_4 (dk_at dksX1_put_5 12 rfl rfl)
theorem dX1_put_130 : decode cX1_put 130 = .ok (.isub, 1) := dk_100 (dk_at dksX1_put_5 13 rfl rfl)
theorem dX1_put_131 : decode cX1_put 131 = .ok (.istore 4, 2) := dk_54 4 (dk_at dksX1_put_5 14 rfl rfl)
theorem dX1_put_133 : decode cX1_put 133 = .ok (.iload 4, 2) := dk_21 4 (dk_at dksX1_put_5 16 rfl rfl)
theorem dX1_put_135 : decode cX1_put 135 = .ok (.ifCond .lt 59, 3) := dk_155 0 59 (dk_at dksX1_put_5 18 rfl rfl)
theorem dX1_put_138 : decode cX1_put 138 = .ok (.aload_n 0, 1) := dk_42 (dk_at dksX1_put_5 21 rfl rfl)
theorem dX1_put_139 : decode cX1_put 139 = .ok (.aload_n 2, 1) := dk_44 (dk_at dksX1_put_5 22 rfl rfl)
theorem dX1_put_140 : decode cX1_put 140 = .ok (.iload 4, 2) := dk_21 4 (dk_at dksX1_put_6 0 rfl rfl)
theorem dX1_put_142 : decode cX1_put 142 = .ok (.invokevirtual 75, 3) := dk_182 0 75 (dk_at dksX1_put_6 2 rfl rfl)
theorem dX1_put_145 : decode cX1_put 145 = .ok (.checkcast 48, 3) := dk_192 0 48 (dk_at dksX1_put_6 5 rfl rfl)
theorem dX1_put_148 : decode cX1_put 148 = .ok (.invokevirtual 110, 3) := dk_182 0 110 (dk_at dksX1_put_6 8 rfl rfl)
theorem dX1_put_151 : decode cX1_put 151 = .ok (.ifCond .eq 37, 3) := dk_153 0 37 (dk_at dksX1_put_6 11 rfl rfl)
theorem dX1_put_154 : decode cX1_put 154 = .ok (.aload_n 0, 1) := dk_42 (dk_at dksX1_put_6 14 rfl rfl)
theorem dX1_put_155 : decode cX1_put 155 = .ok (.iload 4, 2) := dk_21 4 (dk_at dksX1_put_6 15 rfl rfl)
theorem dX1_put_157 : decode cX1_put 157 = .ok (.ifCond .ne 7, 3) := dk_154 0 7 (dk_at dksX1_put_6 17 rfl rfl)
theorem dX1_put_160 : decode cX1_put 160 = .ok (.aconst_null, 1) := dk_1 (dk_at dksX1_put_6 20 rfl rfl)
theorem dX1_put_161 : decode cX1_put 161 = .ok (.goto 14, 3) := dk_167 0 14 (dk_at dksX1_put_6 21 rfl rfl)
theorem dX1_put_164 : decode cX1_put 164 = .ok (.aload_n 2, 1) := dk_44 (dk_at dksX1_put_7 0 rfl rfl)
theorem dX1_put_165 : decode cX1_put 165 = .ok (.iload 4, 2) := dk_21 4 (dk_at dksX1_put_7 1 rfl rfl)
theorem dX1_put_167 : decode cX1_put 167 = .ok (.iconst 1, 1) := dk_4 (dk_at dksX1_put_7 3 rfl rfl)
theorem dX1_put_168 : decode cX1_put 168 = .ok (.isub, 1) := dk_100 (dk_at dksX1_put_7 4 rfl rfl)
theorem dX1_put_169 : decode cX1_put 169 = .ok (.invokevirtual 75, 3) := dk_182 0 75 (dk_at dksX1_put_7 5 rfl rfl)
theorem dX1_put_172 : decode cX1_put 172 = .ok (.checkcast 48, 3) := dk_192 0 48 (dk_at dksX1_put_7 8 rfl rfl)
theorem dX1_put_175 : decode cX1_put 175 = .ok (.aload_n 2, 1) := dk_44 (dk_at dksX1_put_7 11 rfl rfl)
theorem dX1_put_176 : decode cX1_put 176 = .ok (.iload 4, 2) := dk_21 4 (dk_at dksX1_put_7 12 rfl rfl)
theorem dX1_put_178 : decode cX1_put 178 = .ok (.invokevirtual 75, 3) := dk_182 0 75 (dk_at dksX1_put_7 14 rfl rfl)
theorem dX1_put_181 : decode cX1_put 181 = .ok (.checkcast 48, 3) := dk_192 0 48 (dk_at dksX1_put_7 17 rfl rfl)
theorem dX1_put_184 : decode cX1_put 184 = .ok (.invokevirtual 114, 3) := dk_182 0 114 (dk_at dksX1_put_7 20 rfl rfl)
theorem dX1_put_187 : decode cX1_put 187 = .ok (.ireturn, 1) := dk_172 (dk_at dksX1_put_7 23 rfl rfl)
theorem dX1_put_188 : decode cX1_put 188 = .ok (.iinc 4 (-1), 3) := dk_132 4 255 (dk_at dksX1_put_8 0 rfl rfl)
theorem dX1_put_191 : decode cX1_put 191 = .ok (.goto (-58), 3) := dk_167 255 198 (dk_at dksX1_put_8 3 rfl rfl)
theorem dX1_put_194 : decode cX1_put 194 = .ok (.iconst 0, 1) := dk_3 (dk_at dksX1_put_8 6 rfl rfl)
theorem dX1_put_195 : decode cX1_put 195 = .ok (.ireturn, 1) := dk_172 (dk_at dksX1_put_8 7 rfl rfl)
abbrev cX1_wayTo : ByteArray := prog_9_method_5_code
def yX1_wayTo : MethodName := ⟨RX1, "wayTo", "(I)Ljava/util/ArrayList;"⟩
def dkwX1_wayTo_2 : List UInt8 := [167, 0, 7, 45, 180, 0, 55, 78, 167, 255, 214, 44, 176]
abbrev dktX1_wayTo_2 : List UInt8 := dkwX1_wayTo_2 ++ []
def dkwX1_wayTo_1 : List UInt8 := [45, 180, 0, 47, 160, 0, 7, 1, 167, 0, 22, 27, 45, 180, 0, 47, 162, 0, 10, 45, 180, 0, 52]
abbrev dktX1_wayTo_1 : List UInt8 := dkwX1_wayTo_1 ++ dktX1_wayTo_2
def dkwX1_wayTo_0 : List UInt8 := [187, 0, 58, 89, 183, 0, 60, 77, 42, 180, 0, 7, 78, 45, 198, 0, 44, 44, 45, 182, 0, 61, 87, 27]
abbrev dktX1_wayTo_0 : List UInt8 := dkwX1_wayTo_0 ++ dktX1_wayTo_1
theorem dksX1_wayTo_0 : cX1_wayTo.data.toList.drop 0 = dktX1_wayTo_0 := by decide +kernel
theorem dksX1_wayTo_1 : cX1_wayTo.data.toList.drop 24 = dktX1_wayTo_1 := dk_seg dksX1_wayTo_0 24 rfl rfl
theorem dksX1_wayTo_2 : cX1_wayTo.data.toList.drop 47 = dktX1_wayTo_2 := dk_seg dksX1_wayTo_1 23 rfl rfl
theorem dX1_wayTo_0 : decode cX1_wayTo 0 = .ok (.new 58, 3) := dk_187 0 58 (dk_at dksX1_wayTo_0 0 rfl rfl)
theorem dX1_wayTo_3 : decode cX1_wayTo 3 = .ok (.dup, 1) := dk_89 (dk_at dksX1_wayTo_0 3 rfl rfl)
theorem dX1_wayTo_4 : decode cX1_wayTo 4 = .ok (.invokespecial 60, 3) := dk_183 0 60 (dk_at dksX1_wayTo_0 4 rfl rfl)
theorem dX1_wayTo_7 : decode cX1_wayTo 7 = .ok (.astore_n 2, 1) := dk_77 (dk_at dksX1_wayTo_0 7 rfl rfl)
theorem dX1_wayTo_8 : decode cX1_wayTo 8 = .ok (.aload_n 0, 1) := dk_42 (dk_at dksX1_wayTo_0 8 rfl rfl)
theorem dX1_wayTo_9 : decode cX1_wayTo 9 = .ok (.getfield 7, 3) := dk_180 0 7 (dk_at dksX1_wayTo_0 9 rfl rfl)
theorem dX1_wayTo_12 : decode cX1_wayTo 12 = .ok (.astore_n 3, 1) := dk_78 (dk_at dksX1_wayTo_0 12 rfl rfl)
theorem dX1_wayTo_13 : decode cX1_wayTo 13 = .ok (.aload_n 3, 1) := dk_45 (dk_at dksX1_wayTo_0 13 rfl rfl)
theorem dX1_wayTo_14 : decode cX1_wayTo 14 = .ok (.ifnull 44, 3) := dk_198 0 44 (dk_at dksX1_wayTo_0 14 rfl rfl)
theorem dX1_wayTo_17 : decode cX1_wayTo 17 = .ok (.aload_n 2, 1) := dk_44 (dk_at dksX1_wayTo_0 17 rfl rfl)
theorem dX1_wayTo_18 : decode cX1_wayTo 18 = .ok (.aload_n 3, 1) := dk_45 (dk_at dksX1_wayTo_0 18 rfl rfl)
theorem dX1_wayTo_19 : decode cX1_wayTo 19 = .ok (.invokevirtual 61, 3) := dk_182 0 61 (dk_at dksX1_wayTo_0 19 rfl rfl)
theorem dX1_wayTo_22 : decode cX1_wayTo 22 = .ok (.pop, 1) := dk_87 (dk_at dksX1_wayTo_0 22 rfl rfl)
theorem dX1_wayTo_23 : decode cX1_wayTo 23 = .ok (.iload_n 1, 1) := dk_27 (dk_at dksX1_wayTo_0 23 rfl rfl)
theorem dX1_wayTo_24 : decode cX1_wayTo 24 = .ok (.aload_n 3, 1) := dk_45 (dk_at dksX1_wayTo_1 0 rfl rfl)
theorem dX1_wayTo_25 : decode cX1_wayTo 25 = .ok (.getfield 47, 3) := dk_180 0 47 (dk_at dksX1_wayTo_1 1 rfl rfl)
theorem dX1_wayTo_28 : decode cX1_wayTo 28 = .ok (.if_icmp .ne 7, 3) := dk_160 0 7 (dk_at dksX1_wayTo_1 4 rfl rfl)
theorem dX1_wayTo_31 : decode cX1_wayTo 31 = .ok (.aconst_null, 1) := dk_1 (dk_at dksX1_wayTo_1 7 rfl rfl)
theorem dX1_wayTo_32 : decode cX1_wayTo 32 = .ok (.goto 22, 3) := dk_167 0 22 (dk_at dksX1_wayTo_1 8 rfl rfl)
theorem dX1_wayTo_35 : decode cX1_wayTo 35 = .ok (.iload_n 1, 1) := dk_27 (dk_at dksX1_wayTo_1 11 rfl rfl)
theorem dX1_wayTo_36 : decode cX1_wayTo 36 = .ok (.aload_n 3, 1) := dk_45 (dk_at dksX1_wayTo_1 12 rfl rfl)
theorem dX1_wayTo_37 : decode cX1_wayTo 37 = .ok (.getfield 47, 3) := dk_180 0 47 (dk_at dksX1_wayTo_1 13 rfl rfl)
theorem dX1_wayTo_40 : decode cX1_wayTo 40 = .ok (.if_icmp .ge 10, 3) := dk_162 0 10 (dk_at dksX1_wayTo_1 16 rfl rfl)
theorem dX1_wayTo_43 : decode cX1_wayTo 43 = .ok (.aload_n 3, 1) := dk_45 (dk_at dksX1_wayTo_1 19 rfl rfl)
theorem dX1_wayTo_44 : decode cX1_wayTo 44 = .ok (.getfield 52, 3) := dk_180 0 52 (dk_at dksX1_wayTo_1 20 rfl rfl)
theorem dX1_wayTo_47 : decode cX1_wayTo 47 = .ok (.goto 7, 3) := dk_167 0 7 (dk_at dksX1_wayTo_2 0 rfl rfl)
theorem dX1_wayTo_50 : decode cX1_wayTo 50 = .ok (.aload_n 3, 1) := dk_45 (dk_at dksX1_wayTo_2 3 rfl rfl)
theorem dX1_wayTo_51 : decode cX1_wayTo 51 = .ok (.getfield 55, 3) := dk_180 0 55 (dk_at dksX1_wayTo_2 4 rfl rfl)
theorem dX1_wayTo_54 : decode cX1_wayTo 54 = .ok (.astore_n 3, 1) := dk_78 (dk_at dksX1_wayTo_2 7 rfl rfl)
theorem dX1_wayTo_55 : decode cX1_wayTo 55 = .ok (.goto (-42), 3) := dk_167 255 214 (dk_at dksX1_wayTo_2 8 rfl rfl)
theorem dX1_wayTo_58 : decode cX1_wayTo 58 = .ok (.aload_n 2, 1) := dk_44 (dk_at dksX1_wayTo_2 11 rfl rfl)
theorem dX1_wayTo_59 : decode cX1_wayTo 59 = .ok (.areturn, 1) := dk_176 (dk_at dksX1_wayTo_2 12 rfl rfl)
abbrev cX1_pay : ByteArray := prog_9_method_7_code
def yX1_pay : MethodName := ⟨RX1, "pay", "(I)V"⟩
def dkwX1_pay_1 : List UInt8 := [181, 0, 38, 177]
abbrev dktX1_pay_1 : List UInt8 := dkwX1_pay_1 ++ []
def dkwX1_pay_0 : List UInt8 := [42, 89, 180, 0, 35, 27, 96, 181, 0, 35, 42, 42, 180, 0, 38, 42, 180, 0, 35, 184, 0, 65]
abbrev dktX1_pay_0 : List UInt8 := dkwX1_pay_0 ++ dktX1_pay_1
theorem dksX1_pay_0 : cX1_pay.data.toList.drop 0 = dktX1_pay_0 := by decide +kernel
theorem dksX1_pay_1 : cX1_pay.data.toList.drop 22 = dktX1_pay_1 := dk_seg dksX1_pay_0 22 rfl rfl
theorem dX1_pay_0 : decode cX1_pay 0 = .ok (.aload_n 0, 1) := dk_42 (dk_at dksX1_pay_0 0 rfl rfl)
theorem dX1_pay_1 : decode cX1_pay 1 = .ok (.dup, 1) := dk_89 (dk_at dksX1_pay_0 1 rfl rfl)
theorem dX1_pay_2 : decode cX1_pay 2 = .ok (.getfield 35, 3) := dk_180 0 35 (dk_at dksX1_pay_0 2 rfl rfl)
theorem dX1_pay_5 : decode cX1_pay 5 = .ok (.iload_n 1, 1) := dk_27 (dk_at dksX1_pay_0 5 rfl rfl)
theorem dX1_pay_6 : decode cX1_pay 6 = .ok (.iadd, 1) := dk_96 (dk_at dksX1_pay_0 6 rfl rfl)
theorem dX1_pay_7 : decode cX1_pay 7 = .ok (.putfield 35, 3) := dk_181 0 35 (dk_at dksX1_pay_0 7 rfl rfl)
theorem dX1_pay_10 : decode cX1_pay 10 = .ok (.aload_n 0, 1) := dk_42 (dk_at dksX1_pay_0 10 rfl rfl)
theorem dX1_pay_11 : decode cX1_pay 11 = .ok (.aload_n 0, 1) := dk_42 (dk_at dksX1_pay_0 11 rfl rfl)
theorem dX1_pay_12 : decode cX1_pay 12 = .ok (.getfield 38, 3) := dk_180 0 38 (dk_at dksX1_pay_0 12 rfl rfl)
theorem dX1_pay_15 : decode cX1_pay 15 = .ok (.aload_n 0, 1) := dk_42 (dk_at dksX1_pay_0 15 rfl rfl)
theorem dX1_pay_16 : decode cX1_pay 16 = .ok (.getfield 35, 3) := dk_180 0 35 (dk_at dksX1_pay_0 16 rfl rfl)
theorem dX1_pay_19 : decode cX1_pay 19 = .ok (.invokestatic 65, 3) := dk_184 0 65 (dk_at dksX1_pay_0 19 rfl rfl)
theorem dX1_pay_22 : decode cX1_pay 22 = .ok (.putfield 38, 3) := dk_181 0 38 (dk_at dksX1_pay_1 0 rfl rfl)
theorem dX1_pay_25 : decode cX1_pay 25 = .ok (.return_, 1) := dk_177 (dk_at dksX1_pay_1 3 rfl rfl)
abbrev cX1_limit : ByteArray := prog_9_method_6_code
def yX1_limit : MethodName := ⟨RX1, "limit", "(I)I"⟩
def dkwX1_limit_2 : List UInt8 := [167, 255, 228, 21, 6, 172]
abbrev dktX1_limit_2 : List UInt8 := dkwX1_limit_2 ++ []
def dkwX1_limit_1 : List UInt8 := [157, 0, 27, 32, 42, 180, 0, 23, 133, 105, 65, 22, 4, 42, 180, 0, 19, 133, 105, 55, 4, 132, 6, 1]
abbrev dktX1_limit_1 : List UInt8 := dkwX1_limit_1 ++ dktX1_limit_2
def dkwX1_limit_0 : List UInt8 := [42, 180, 0, 23, 133, 65, 27, 133, 42, 180, 0, 19, 133, 105, 55, 4, 3, 54, 6, 32, 22, 4, 148]
abbrev dktX1_limit_0 : List UInt8 := dkwX1_limit_0 ++ dktX1_limit_1
theorem dksX1_limit_0 : cX1_limit.data.toList.drop 0 = dktX1_limit_0 := by decide +kernel
theorem dksX1_limit_1 : cX1_limit.data.toList.drop 23 = dktX1_limit_1 := dk_seg dksX1_limit_0 23 rfl rfl
theorem dksX1_limit_2 : cX1_limit.data.toList.drop 47 = dktX1_limit_2 := dk_seg dksX1_limit_1 24 rfl rfl
theorem dX1_limit_0 : decode cX1_limit 0 = .ok (.aload_n 0, 1) := dk_42 (dk_at dksX1_limit_0 0 rfl rfl)
theorem dX1_limit_1 : decode cX1_limit 1 = .ok (.getfield 23, 3) := dk_180 0 23 (dk_at dksX1_limit_0 1 rfl rfl)
theorem dX1_limit_4 : decode cX1_limit 4 = .ok (.i2l, 1) := dk_133 (dk_at dksX1_limit_0 4 rfl rfl)
theorem dX1_limit_5 : decode cX1_limit 5 = .ok (.lstore_n 2, 1) := dk_65 (dk_at dksX1_limit_0 5 rfl rfl)
theorem dX1_limit_6 : decode cX1_limit 6 = .ok (.iload_n 1, 1) := dk_27 (dk_at dksX1_limit_0 6 rfl rfl)
theorem dX1_limit_7 : decode cX1_limit 7 = .ok (.i2l, 1) := dk_133 (dk_at dksX1_limit_0 7 rfl rfl)
theorem dX1_limit_8 : decode cX1_limit 8 = .ok (.aload_n 0, 1) := dk_42 (dk_at dksX1_limit_0 8 rfl rfl)
theorem dX1_limit_9 : decode cX1_limit 9 = .ok (.getfield 19, 3) := dk_180 0 19 (dk_at dksX1_limit_0 9 rfl rfl)
theorem dX1_limit_12 : decode cX1_limit 12 = .ok (.i2l, 1) := dk_133 (dk_at dksX1_limit_0 12 rfl rfl)
theorem dX1_limit_13 : decode cX1_limit 13 = .ok (.lmul, 1) := dk_105 (dk_at dksX1_limit_0 13 rfl rfl)
theorem dX1_limit_14 : decode cX1_limit 14 = .ok (.lstore 4, 2) := dk_55 4 (dk_at dksX1_limit_0 14 rfl rfl)
theorem dX1_limit_16 : decode cX1_limit 16 = .ok (.iconst 0, 1) := dk_3 (dk_at dksX1_limit_0 16 rfl rfl)
theorem dX1_limit_17 : decode cX1_limit 17 = .ok (.istore 6, 2) := dk_54 6 (dk_at dksX1_limit_0 17 rfl rfl)
theorem dX1_limit_19 : decode cX1_limit 19 = .ok (.lload_n 2, 1) := dk_32 (dk_at dksX1_limit_0 19 rfl rfl)
theorem dX1_limit_20 : decode cX1_limit 20 = .ok (.lload 4, 2) := dk_22 4 (dk_at dksX1_limit_0 20 rfl rfl)
theorem dX1_limit_22 : decode cX1_limit 22 = .ok (.lcmp, 1) := dk_148 (dk_at dksX1_limit_0 22 rfl rfl)
theorem dX1_limit_23 : decode cX1_limit 23 = .ok (.ifCond .gt 27, 3) := dk_157 0 27 (dk_at dksX1_limit_1 0 rfl rfl)
theorem dX1_limit_26 : decode cX1_limit 26 = .ok (.lload_n 2, 1) := dk_32 (dk_at dksX1_limit_1 3 rfl rfl)
theorem dX1_limit_27 : decode cX1_limit 27 = .ok (.aload_n 0, 1) := dk_42 (dk_at dksX1_limit_1 4 rfl rfl)
theorem dX1_limit_28 : decode cX1_limit 28 = .ok (.getfield 23, 3) := dk_180 0 23 (dk_at dksX1_limit_1 5 rfl rfl)
theorem dX1_limit_31 : decode cX1_limit 31 = .ok (.i2l, 1) := dk_133 (dk_at dksX1_limit_1 8 rfl rfl)
theorem dX1_limit_32 : decode cX1_limit 32 = .ok (.lmul, 1) := dk_105 (dk_at dksX1_limit_1 9 rfl rfl)
theorem dX1_limit_33 : decode cX1_limit 33 = .ok (.lstore_n 2, 1) := dk_65 (dk_at dksX1_limit_1 10 rfl rfl)
theorem dX1_limit_34 : decode cX1_limit 34 = .ok (.lload 4, 2) := dk_22 4 (dk_at dksX1_limit_1 11 rfl rfl)
theorem dX1_limit_36 : decode cX1_limit 36 = .ok (.aload_n 0, 1) := dk_42 (dk_at dksX1_limit_1 13 rfl rfl)
theorem dX1_limit_37 : decode cX1_limit 37 = .ok (.getfield 19, 3) := dk_180 0 19 (dk_at dksX1_limit_1 14 rfl rfl)
theorem dX1_limit_40 : decode cX1_limit 40 = .ok (.i2l, 1) := dk_133 (dk_at dksX1_limit_1 17 rfl rfl)
theorem dX1_limit_41 : decode cX1_limit 41 = .ok (.lmul, 1) := dk_105 (dk_at dksX1_limit_1 18 rfl rfl)
theorem dX1_limit_42 : decode cX1_limit 42 = .ok (.lstore 4, 2) := dk_55 4 (dk_at dksX1_limit_1 19 rfl rfl)
theorem dX1_limit_44 : decode cX1_limit 44 = .ok (.iinc 6 1, 3) := dk_132 6 1 (dk_at dksX1_limit_1 21 rfl rfl)
theorem dX1_limit_47 : decode cX1_limit 47 = .ok (.goto (-28), 3) := dk_167 255 228 (dk_at dksX1_limit_2 0 rfl rfl)
theorem dX1_limit_50 : decode cX1_limit 50 = .ok (.iload 6, 2) := dk_21 6 (dk_at dksX1_limit_2 3 rfl rfl)
theorem dX1_limit_52 : decode cX1_limit 52 = .ok (.ireturn, 1) := dk_172 (dk_at dksX1_limit_2 5 rfl rfl)
abbrev cX1_isTooMuch : ByteArray := prog_9_method_12_code
def yX1_isTooMuch : MethodName := ⟨RX1, "isTooMuch", "(LCreditShelf$Entry;)Z"⟩
def dkwX1_isTooMuch_1 : List UInt8 := [180, 0, 19, 43, 184, 0, 95, 104, 164, 0, 7, 4, 167, 0, 4, 3, 172]
abbrev dktX1_isTooMuch_1 : List UInt8 := dkwX1_isTooMuch_1 ++ []
def dkwX1_isTooMuch_0 : List UInt8 := [42, 180, 0, 23, 43, 180, 0, 52, 184, 0, 95, 43, 180, 0, 55, 184, 0, 95, 184, 0, 99, 104, 42]
abbrev dktX1_isTooMuch_0 : List UInt8 := dkwX1_isTooMuch_0 ++ dktX1_isTooMuch_1
theorem dksX1_isTooMuch_0 : cX1_isTooMuch.data.toList.drop 0 = dktX1_isTooMuch_0 := by decide +kernel
theorem dksX1_isTooMuch_1 : cX1_isTooMuch.data.toList.drop 23 = dktX1_isTooMuch_1 := dk_seg dksX1_isTooMuch_0 23 rfl rfl
theorem dX1_isTooMuch_0 : decode cX1_isTooMuch 0 = .ok (.aload_n 0, 1) := dk_42 (dk_at dksX1_isTooMuch_0 0 rfl rfl)
theorem dX1_isTooMuch_1 : decode cX1_isTooMuch 1 = .ok (.getfield 23, 3) := dk_180 0 23 (dk_at dksX1_isTooMuch_0 1 rfl rfl)
theorem dX1_isTooMuch_4 : decode cX1_isTooMuch 4 = .ok (.aload_n 1, 1) := dk_43 (dk_at dksX1_isTooMuch_0 4 rfl rfl)
theorem dX1_isTooMuch_5 : decode cX1_isTooMuch 5 = .ok (.getfield 52, 3) := dk_180 0 52 (dk_at dksX1_isTooMuch_0 5 rfl rfl)
theorem dX1_isTooMuch_8 : decode cX1_isTooMuch 8 = .ok (.invokestatic 95, 3) := dk_184 0 95 (dk_at dksX1_isTooMuch_0 8 rfl rfl)
theorem dX1_isTooMuch_11 : decode cX1_isTooMuch 11 = .ok (.aload_n 1, 1) := dk_43 (dk_at dksX1_isTooMuch_0 11 rfl rfl)
theorem dX1_isTooMuch_12 : decode cX1_isTooMuch 12 = .ok (.getfield 55, 3) := dk_180 0 55 (dk_at dksX1_isTooMuch_0 12 rfl rfl)
theorem dX1_isTooMuch_15 : decode cX1_isTooMuch 15 = .ok (.invokestatic 95, 3) := dk_184 0 95 (dk_at dksX1_isTooMuch_0 15 rfl rfl)
theorem dX1_isTooMuch_18 : decode cX1_isTooMuch 18 = .ok (.invokestatic 99, 3) := dk_184 0 99 (dk_at dksX1_isTooMuch_0 18 rfl rfl)
theorem dX1_isTooMuch_21 : decode cX1_isTooMuch 21 = .ok (.imul, 1) := dk_104 (dk_at dksX1_isTooMuch_0 21 rfl rfl)
theorem dX1_isTooMuch_22 : decode cX1_isTooMuch 22 = .ok (.aload_n 0, 1) := dk_42 (dk_at dksX1_isTooMuch_0 22 rfl rfl)
theorem dX1_isTooMuch_23 : decode cX1_isTooMuch 23 = .ok (.getfield 19, 3) := dk_180 0 19 (dk_at dksX1_isTooMuch_1 0 rfl rfl)
theorem dX1_isTooMuch_26 : decode cX1_isTooMuch 26 = .ok (.aload_n 1, 1) := dk_43 (dk_at dksX1_isTooMuch_1 3 rfl rfl)
theorem dX1_isTooMuch_27 : decode cX1_isTooMuch 27 = .ok (.invokestatic 95, 3) := dk_184 0 95 (dk_at dksX1_isTooMuch_1 4 rfl rfl)
theorem dX1_isTooMuch_30 : decode cX1_isTooMuch 30 = .ok (.imul, 1) := dk_104 (dk_at dksX1_isTooMuch_1 7 rfl rfl)
theorem dX1_isTooMuch_31 : decode cX1_isTooMuch 31 = .ok (.if_icmp .le 7, 3) := dk_164 0 7 (dk_at dksX1_isTooMuch_1 8 rfl rfl)
theorem dX1_isTooMuch_34 : decode cX1_isTooMuch 34 = .ok (.iconst 1, 1) := dk_4 (dk_at dksX1_isTooMuch_1 11 rfl rfl)
theorem dX1_isTooMuch_35 : decode cX1_isTooMuch 35 = .ok (.goto 4, 3) := dk_167 0 4 (dk_at dksX1_isTooMuch_1 12 rfl rfl)
theorem dX1_isTooMuch_38 : decode cX1_isTooMuch 38 = .ok (.iconst 0, 1) := dk_3 (dk_at dksX1_isTooMuch_1 15 rfl rfl)
theorem dX1_isTooMuch_39 : decode cX1_isTooMuch 39 = .ok (.ireturn, 1) := dk_172 (dk_at dksX1_isTooMuch_1 16 rfl rfl)
abbrev cX1_build : ByteArray := prog_9_method_11_code
def yX1_build : MethodName := ⟨RX1, "build", "(LCreditShelf$Entry;LCreditShelf$Entry;)I"⟩
def dkwX1_build_2 : List UInt8 := [182, 0, 83, 96, 181, 0, 44, 42, 45, 182, 0, 83, 116, 182, 0, 91, 45, 182, 0, 83, 172]
abbrev dktX1_build_2 : List UInt8 := dkwX1_build_2 ++ []
def dkwX1_build_1 : List UInt8 := [184, 0, 79, 182, 0, 87, 42, 89, 180, 0, 41, 4, 96, 181, 0, 41, 42, 89, 180, 0, 44, 45]
abbrev dktX1_build_1 : List UInt8 := dkwX1_build_1 ++ dktX1_build_2
def dkwX1_build_0 : List UInt8 := [187, 0, 58, 89, 183, 0, 60, 78, 44, 45, 184, 0, 71, 42, 43, 44, 45, 3, 45, 182, 0, 83, 4, 100]
abbrev dktX1_build_0 : List UInt8 := dkwX1_build_0 ++ dktX1_build_1
theorem dksX1_build_0 : cX1_build.data.toList.drop 0 = dktX1_build_0 := by decide +kernel
theorem dksX1_build_1 : cX1_build.data.toList.drop 24 = dktX1_build_1 := dk_seg dksX1_build_0 24 rfl rfl
theorem dksX1_build_2 : cX1_build.data.toList.drop 46 = dktX1_build_2 := dk_seg dksX1_build_1 22 rfl rfl
theorem dX1_build_0 : decode cX1_build 0 = .ok (.new 58, 3) := dk_187 0 58 (dk_at dksX1_build_0 0 rfl rfl)
theorem dX1_build_3 : decode cX1_build 3 = .ok (.dup, 1) := dk_89 (dk_at dksX1_build_0 3 rfl rfl)
theorem dX1_build_4 : decode cX1_build 4 = .ok (.invokespecial 60, 3) := dk_183 0 60 (dk_at dksX1_build_0 4 rfl rfl)
theorem dX1_build_7 : decode cX1_build 7 = .ok (.astore_n 3, 1) := dk_78 (dk_at dksX1_build_0 7 rfl rfl)
theorem dX1_build_8 : decode cX1_build 8 = .ok (.aload_n 2, 1) := dk_44 (dk_at dksX1_build_0 8 rfl rfl)
theorem dX1_build_9 : decode cX1_build 9 = .ok (.aload_n 3, 1) := dk_45 (dk_at dksX1_build_0 9 rfl rfl)
theorem dX1_build_10 : decode cX1_build 10 = .ok (.invokestatic 71, 3) := dk_184 0 71 (dk_at dksX1_build_0 10 rfl rfl)
theorem dX1_build_13 : decode cX1_build 13 = .ok (.aload_n 0, 1) := dk_42 (dk_at dksX1_build_0 13 rfl rfl)
theorem dX1_build_14 : decode cX1_build 14 = .ok (.aload_n 1, 1) := dk_43 (dk_at dksX1_build_0 14 rfl rfl)
theorem dX1_build_15 : decode cX1_build 15 = .ok (.aload_n 2, 1) := dk_44 (dk_at dksX1_build_0 15 rfl rfl)
theorem dX1_build_16 : decode cX1_build 16 = .ok (.aload_n 3, 1) := dk_45 (dk_at dksX1_build_0 16 rfl rfl)
theorem dX1_build_17 : decode cX1_build 17 = .ok (.iconst 0, 1) := dk_3 (dk_at dksX1_build_0 17 rfl rfl)
theorem dX1_build_18 : decode cX1_build 18 = .ok (.aload_n 3, 1) := dk_45 (dk_at dksX1_build_0 18 rfl rfl)
theorem dX1_build_19 : decode cX1_build 19 = .ok (.invokevirtual 83, 3) := dk_182 0 83 (dk_at dksX1_build_0 19 rfl rfl)
theorem dX1_build_22 : decode cX1_build 22 = .ok (.iconst 1, 1) := dk_4 (dk_at dksX1_build_0 22 rfl rfl)
theorem dX1_build_23 : decode cX1_build 23 = .ok (.isub, 1) := dk_100 (dk_at dksX1_build_0 23 rfl rfl)
theorem dX1_build_24 : decode cX1_build 24 = .ok (.invokestatic 79, 3) := dk_184 0 79 (dk_at dksX1_build_1 0 rfl rfl)
theorem dX1_build_27 : decode cX1_build 27 = .ok (.invokevirtual 87, 3) := dk_182 0 87 (dk_at dksX1_build_1 3 rfl rfl)
theorem dX1_build_30 : decode cX1_build 30 = .ok (.aload_n 0, 1) := dk_42 (dk_at dksX1_build_1 6 rfl rfl)
theorem dX1_build_31 : decode cX1_build 31 = .ok (.dup, 1) := dk_89 (dk_at dksX1_build_1 7 rfl rfl)
theorem dX1_build_32 : decode cX1_build 32 = .ok (.getfield 41, 3) := dk_180 0 41 (dk_at dksX1_build_1 8 rfl rfl)
theorem dX1_build_35 : decode cX1_build 35 = .ok (.iconst 1, 1) := dk_4 (dk_at dksX1_build_1 11 rfl rfl)
theorem dX1_build_36 : decode cX1_build 36 = .ok (.iadd, 1) := dk_96 (dk_at dksX1_build_1 12 rfl rfl)
theorem dX1_build_37 : decode cX1_build 37 = .ok (.putfield 41, 3) := dk_181 0 41 (dk_at dksX1_build_1 13 rfl rfl)
theorem dX1_build_40 : decode cX1_build 40 = .ok (.aload_n 0, 1) := dk_42 (dk_at dksX1_build_1 16 rfl rfl)
theorem dX1_build_41 : decode cX1_build 41 = .ok (.dup, 1) := dk_89 (dk_at dksX1_build_1 17 rfl rfl)
theorem dX1_build_42 : decode cX1_build 42 = .ok (.getfield 44, 3) := dk_180 0 44 (dk_at dksX1_build_1 18 rfl rfl)
theorem dX1_build_45 : decode cX1_build 45 = .ok (.aload_n 3, 1) := dk_45 (dk_at dksX1_build_1 21 rfl rfl)
theorem dX1_build_46 : decode cX1_build 46 = .ok (.invokevirtual 83, 3) := dk_182 0 83 (dk_at dksX1_build_2 0 rfl rfl)
theorem dX1_build_49 : decode cX1_build 49 = .ok (.iadd, 1) := dk_96 (dk_at dksX1_build_2 3 rfl rfl)
theorem dX1_build_50 : decode cX1_build 50 = .ok (.putfield 44, 3) := dk_181 0 44 (dk_at dksX1_build_2 4 rfl rfl)
theorem dX1_build_53 : decode cX1_build 53 = .ok (.aload_n 0, 1) := dk_42 (dk_at dksX1_build_2 7 rfl rfl)
theorem dX1_build_54 : decode cX1_build 54 = .ok (.aload_n 3, 1) := dk_45 (dk_at dksX1_build_2 8 rfl rfl)
theorem dX1_build_55 : decode cX1_build 55 = .ok (.invokevirtual 83, 3) := dk_182 0 83 (dk_at dksX1_build_2 9 rfl rfl)
theorem dX1_build_58 : decode cX1_build 58 = .ok (.ineg, 1) := dk_116 (dk_at dksX1_build_2 12 rfl rfl)
theorem dX1_build_59 : decode cX1_build 59 = .ok (.invokevirtual 91, 3) := dk_182 0 91 (dk_at dksX1_build_2 13 rfl rfl)
theorem dX1_build_62 : decode cX1_build 62 = .ok (.aload_n 3, 1) := dk_45 (dk_at dksX1_build_2 16 rfl rfl)
theorem dX1_build_63 : decode cX1_build 63 = .ok (.invokevirtual 83, 3) := dk_182 0 83 (dk_at dksX1_build_2 17 rfl rfl)
theorem dX1_build_66 : decode cX1_build 66 = .ok (.ireturn, 1) := dk_172 (dk_at dksX1_build_2 20 rfl rfl)
abbrev cX1_collect : ByteArray := prog_9_method_8_code
def yX1_collect : MethodName := ⟨RX1, "collect", "(LCreditShelf$Entry;Ljava/util/ArrayList;)V"⟩
def dkwX1_collect_1 : List UInt8 := [184, 0, 71, 177]
abbrev dktX1_collect_1 : List UInt8 := dkwX1_collect_1 ++ []
def dkwX1_collect_0 : List UInt8 := [42, 198, 0, 25, 42, 180, 0, 52, 43, 184, 0, 71, 43, 42, 182, 0, 61, 87, 42, 180, 0, 55, 43]
abbrev dktX1_collect_0 : List UInt8 := dkwX1_collect_0 ++ dktX1_collect_1
theorem dksX1_collect_0 : cX1_collect.data.toList.drop 0 = dktX1_collect_0 := by decide +kernel
theorem dksX1_collect_1 : cX1_collect.data.toList.drop 23 = dktX1_collect_1 := dk_seg dksX1_collect_0 23 rfl rfl
theorem dX1_collect_0 : decode cX1_collect 0 = .ok (.aload_n 0, 1) := dk_42 (dk_at dksX1_collect_0 0 rfl rfl)
theorem dX1_collect_1 : decode cX1_collect 1 = .ok (.ifnull 25, 3) := dk_198 0 25 (dk_at dksX1_collect_0 1 rfl rfl)
theorem dX1_collect_4 : decode cX1_collect 4 = .ok (.aload_n 0, 1) := dk_42 (dk_at dksX1_collect_0 4 rfl rfl)
theorem dX1_collect_5 : decode cX1_collect 5 = .ok (.getfield 52, 3) := dk_180 0 52 (dk_at dksX1_collect_0 5 rfl rfl)
theorem dX1_collect_8 : decode cX1_collect 8 = .ok (.aload_n 1, 1) := dk_43 (dk_at dksX1_collect_0 8 rfl rfl)
theorem dX1_collect_9 : decode cX1_collect 9 = .ok (.invokestatic 71, 3) := dk_184 0 71 (dk_at dksX1_collect_0 9 rfl rfl)
theorem dX1_collect_12 : decode cX1_collect 12 = .ok (.aload_n 1, 1) := dk_43 (dk_at dksX1_collect_0 12 rfl rfl)
theorem dX1_collect_13 : decode cX1_collect 13 = .ok (.aload_n 0, 1) := dk_42 (dk_at dksX1_collect_0 13 rfl rfl)
theorem dX1_collect_14 : decode cX1_collect 14 = .ok (.invokevirtual 61, 3) := dk_182 0 61 (dk_at dksX1_collect_0 14 rfl rfl)
theorem dX1_collect_17 : decode cX1_collect 17 = .ok (.pop, 1) := dk_87 (dk_at dksX1_collect_0 17 rfl rfl)
theorem dX1_collect_18 : decode cX1_collect 18 = .ok (.aload_n 0, 1) := dk_42 (dk_at dksX1_collect_0 18 rfl rfl)
theorem dX1_collect_19 : decode cX1_collect 19 = .ok (.getfield 55, 3) := dk_180 0 55 (dk_at dksX1_collect_0 19 rfl rfl)
theorem dX1_collect_22 : decode cX1_collect 22 = .ok (.aload_n 1, 1) := dk_43 (dk_at dksX1_collect_0 22 rfl rfl)
theorem dX1_collect_23 : decode cX1_collect 23 = .ok (.invokestatic 71, 3) := dk_184 0 71 (dk_at dksX1_collect_1 0 rfl rfl)
theorem dX1_collect_26 : decode cX1_collect 26 = .ok (.return_, 1) := dk_177 (dk_at dksX1_collect_1 3 rfl rfl)
abbrev cX1_flat : ByteArray := prog_9_method_9_code
def yX1_flat : MethodName := ⟨RX1, "flat", "(Ljava/util/ArrayList;II)LCreditShelf$Entry;"⟩
def dkwX1_flat_2 : List UInt8 := [184, 0, 79, 181, 0, 55, 45, 176]
abbrev dktX1_flat_2 : List UInt8 := dkwX1_flat_2 ++ []
def dkwX1_flat_1 : List UInt8 := [28, 96, 5, 108, 4, 100, 184, 0, 79, 181, 0, 52, 45, 42, 27, 28, 96, 5, 108, 4, 96, 28]
abbrev dktX1_flat_1 : List UInt8 := dkwX1_flat_1 ++ dktX1_flat_2
def dkwX1_flat_0 : List UInt8 := [27, 28, 164, 0, 5, 1, 176, 42, 27, 28, 96, 5, 108, 182, 0, 75, 192, 0, 48, 78, 45, 42, 27, 27]
abbrev dktX1_flat_0 : List UInt8 := dkwX1_flat_0 ++ dktX1_flat_1
theorem dksX1_flat_0 : cX1_flat.data.toList.drop 0 = dktX1_flat_0 := by decide +kernel
theorem dksX1_flat_1 : cX1_flat.data.toList.drop 24 = dktX1_flat_1 := dk_seg dksX1_flat_0 24 rfl rfl
theorem dksX1_flat_2 : cX1_flat.data.toList.drop 46 = dktX1_flat_2 := dk_seg dksX1_flat_1 22 rfl rfl
theorem dX1_flat_0 : decode cX1_flat 0 = .ok (.iload_n 1, 1) := dk_27 (dk_at dksX1_flat_0 0 rfl rfl)
theorem dX1_flat_1 : decode cX1_flat 1 = .ok (.iload_n 2, 1) := dk_28 (dk_at dksX1_flat_0 1 rfl rfl)
theorem dX1_flat_2 : decode cX1_flat 2 = .ok (.if_icmp .le 5, 3) := dk_164 0 5 (dk_at dksX1_flat_0 2 rfl rfl)
theorem dX1_flat_5 : decode cX1_flat 5 = .ok (.aconst_null, 1) := dk_1 (dk_at dksX1_flat_0 5 rfl rfl)
theorem dX1_flat_6 : decode cX1_flat 6 = .ok (.areturn, 1) := dk_176 (dk_at dksX1_flat_0 6 rfl rfl)
theorem dX1_flat_7 : decode cX1_flat 7 = .ok (.aload_n 0, 1) := dk_42 (dk_at dksX1_flat_0 7 rfl rfl)
theorem dX1_flat_8 : decode cX1_flat 8 = .ok (.iload_n 1, 1) := dk_27 (dk_at dksX1_flat_0 8 rfl rfl)
theorem dX1_flat_9 : decode cX1_flat 9 = .ok (.iload_n 2, 1) := dk_28 (dk_at dksX1_flat_0 9 rfl rfl)
theorem dX1_flat_10 : decode cX1_flat 10 = .ok (.iadd, 1) := dk_96 (dk_at dksX1_flat_0 10 rfl rfl)
theorem dX1_flat_11 : decode cX1_flat 11 = .ok (.iconst 2, 1) := dk_5 (dk_at dksX1_flat_0 11 rfl rfl)
theorem dX1_flat_12 : decode cX1_flat 12 = .ok (.idiv, 1) := dk_108 (dk_at dksX1_flat_0 12 rfl rfl)
theorem dX1_flat_13 : decode cX1_flat 13 = .ok (.invokevirtual 75, 3) := dk_182 0 75 (dk_at dksX1_flat_0 13 rfl rfl)
theorem dX1_flat_16 : decode cX1_flat 16 = .ok (.checkcast 48, 3) := dk_192 0 48 (dk_at dksX1_flat_0 16 rfl rfl)
theorem dX1_flat_19 : decode cX1_flat 19 = .ok (.astore_n 3, 1) := dk_78 (dk_at dksX1_flat_0 19 rfl rfl)
theorem dX1_flat_20 : decode cX1_flat 20 = .ok (.aload_n 3, 1) := dk_45 (dk_at dksX1_flat_0 20 rfl rfl)
theorem dX1_flat_21 : decode cX1_flat 21 = .ok (.aload_n 0, 1) := dk_42 (dk_at dksX1_flat_0 21 rfl rfl)
theorem dX1_flat_22 : decode cX1_flat 22 = .ok (.iload_n 1, 1) := dk_27 (dk_at dksX1_flat_0 22 rfl rfl)
theorem dX1_flat_23 : decode cX1_flat 23 = .ok (.iload_n 1, 1) := dk_27 (dk_at dksX1_flat_0 23 rfl rfl)
theorem dX1_flat_24 : decode cX1_flat 24 = .ok (.iload_n 2, 1) := dk_28 (dk_at dksX1_flat_1 0 rfl rfl)
theorem dX1_flat_25 : decode cX1_flat 25 = .ok (.iadd, 1) := dk_96 (dk_at dksX1_flat_1 1 rfl rfl)
theorem dX1_flat_26 : decode cX1_flat 26 = .ok (.iconst 2, 1) := dk_5 (dk_at dksX1_flat_1 2 rfl rfl)
theorem dX1_flat_27 : decode cX1_flat 27 = .ok (.idiv, 1) := dk_108 (dk_at dksX1_flat_1 3 rfl rfl)
theorem dX1_flat_28 : decode cX1_flat 28 = .ok (.iconst 1, 1) := dk_4 (dk_at dksX1_flat_1 4 rfl rfl)
theorem dX1_flat_29 : decode cX1_flat 29 = .ok (.isub, 1) := dk_100 (dk_at dksX1_flat_1 5 rfl rfl)
theorem dX1_flat_30 : decode cX1_flat 30 = .ok (.invokestatic 79, 3) := dk_184 0 79 (dk_at dksX1_flat_1 6 rfl rfl)
theorem dX1_flat_33 : decode cX1_flat 33 = .ok (.putfield 52, 3) := dk_181 0 52 (dk_at dksX1_flat_1 9 rfl rfl)
theorem dX1_flat_36 : decode cX1_flat 36 = .ok (.aload_n 3, 1) := dk_45 (dk_at dksX1_flat_1 12 rfl rfl)
theorem dX1_flat_37 : decode cX1_flat 37 = .ok (.aload_n 0, 1) := dk_42 (dk_at dksX1_flat_1 13 rfl rfl)
theorem dX1_flat_38 : decode cX1_flat 38 = .ok (.iload_n 1, 1) := dk_27 (dk_at dksX1_flat_1 14 rfl rfl)
theorem dX1_flat_39 : decode cX1_flat 39 = .ok (.iload_n 2, 1) := dk_28 (dk_at dksX1_flat_1 15 rfl rfl)
theorem dX1_flat_40 : decode cX1_flat 40 = .ok (.iadd, 1) := dk_96 (dk_at dksX1_flat_1 16 rfl rfl)
theorem dX1_flat_41 : decode cX1_flat 41 = .ok (.iconst 2, 1) := dk_5 (dk_at dksX1_flat_1 17 rfl rfl)
theorem dX1_flat_42 : decode cX1_flat 42 = .ok (.idiv, 1) := dk_108 (dk_at dksX1_flat_1 18 rfl rfl)
theorem dX1_flat_43 : decode cX1_flat 43 = .ok (.iconst 1, 1) := dk_4 (dk_at dksX1_flat_1 19 rfl rfl)
theorem dX1_flat_44 : decode cX1_flat 44 = .ok (.iadd, 1) := dk_96 (dk_at dksX1_flat_1 20 rfl rfl)
theorem dX1_flat_45 : decode cX1_flat 45 = .ok (.iload_n 2, 1) := dk_28 (dk_at dksX1_flat_1 21 rfl rfl)
theorem dX1_flat_46 : decode cX1_flat 46 = .ok (.invokestatic 79, 3) := dk_184 0 79 (dk_at dksX1_flat_2 0 rfl rfl)
theorem dX1_flat_49 : decode cX1_flat 49 = .ok (.putfield 55, 3) := dk_181 0 55 (dk_at dksX1_flat_2 3 rfl rfl)
theorem dX1_flat_52 : decode cX1_flat 52 = .ok (.aload_n 3, 1) := dk_45 (dk_at dksX1_flat_2 6 rfl rfl)
theorem dX1_flat_53 : decode cX1_flat 53 = .ok (.areturn, 1) := dk_176 (dk_at dksX1_flat_2 7 rfl rfl)
abbrev cX1_hang : ByteArray := prog_9_method_10_code
def yX1_hang : MethodName := ⟨RX1, "hang", "(LCreditShelf$Entry;LCreditShelf$Entry;LCreditShelf$Entry;)V"⟩
def dkwX1_hang_1 : List UInt8 := [181, 0, 52, 167, 0, 8, 43, 45, 181, 0, 55, 177]
abbrev dktX1_hang_1 : List UInt8 := dkwX1_hang_1 ++ []
def dkwX1_hang_0 : List UInt8 := [43, 199, 0, 11, 42, 45, 181, 0, 7, 167, 0, 24, 43, 180, 0, 52, 44, 166, 0, 11, 43, 45]
abbrev dktX1_hang_0 : List UInt8 := dkwX1_hang_0 ++ dktX1_hang_1
theorem dksX1_hang_0 : cX1_hang.data.toList.drop 0 = dktX1_hang_0 := by decide +kernel
theorem dksX1_hang_1 : cX1_hang.data.toList.drop 22 = dktX1_hang_1 := dk_seg dksX1_hang_0 22 rfl rfl
theorem dX1_hang_0 : decode cX1_hang 0 = .ok (.aload_n 1, 1) := dk_43 (dk_at dksX1_hang_0 0 rfl rfl)
theorem dX1_hang_1 : decode cX1_hang 1 = .ok (.ifnonnull 11, 3) := dk_199 0 11 (dk_at dksX1_hang_0 1 rfl rfl)
theorem dX1_hang_4 : decode cX1_hang 4 = .ok (.aload_n 0, 1) := dk_42 (dk_at dksX1_hang_0 4 rfl rfl)
theorem dX1_hang_5 : decode cX1_hang 5 = .ok (.aload_n 3, 1) := dk_45 (dk_at dksX1_hang_0 5 rfl rfl)
theorem dX1_hang_6 : decode cX1_hang 6 = .ok (.putfield 7, 3) := dk_181 0 7 (dk_at dksX1_hang_0 6 rfl rfl)
theorem dX1_hang_9 : decode cX1_hang 9 = .ok (.goto 24, 3) := dk_167 0 24 (dk_at dksX1_hang_0 9 rfl rfl)
theorem dX1_hang_12 : decode cX1_hang 12 = .ok (.aload_n 1, 1) := dk_43 (dk_at dksX1_hang_0 12 rfl rfl)
theorem dX1_hang_13 : decode cX1_hang 13 = .ok (.getfield 52, 3) := dk_180 0 52 (dk_at dksX1_hang_0 13 rfl rfl)
theorem dX1_hang_16 : decode cX1_hang 16 = .ok (.aload_n 2, 1) := dk_44 (dk_at dksX1_hang_0 16 rfl rfl)
theorem dX1_hang_17 : decode cX1_hang 17 = .ok (.if_acmp .ne 11, 3) := dk_166 0 11 (dk_at dksX1_hang_0 17 rfl rfl)
theorem dX1_hang_20 : decode cX1_hang 20 = .ok (.aload_n 1, 1) := dk_43 (dk_at dksX1_hang_0 20 rfl rfl)
theorem dX1_hang_21 : decode cX1_hang 21 = .ok (.aload_n 3, 1) := dk_45 (dk_at dksX1_hang_0 21 rfl rfl)
theorem dX1_hang_22 : decode cX1_hang 22 = .ok (.putfield 52, 3) := dk_181 0 52 (dk_at dksX1_hang_1 0 rfl rfl)
theorem dX1_hang_25 : decode cX1_hang 25 = .ok (.goto 8, 3) := dk_167 0 8 (dk_at dksX1_hang_1 3 rfl rfl)
theorem dX1_hang_28 : decode cX1_hang 28 = .ok (.aload_n 1, 1) := dk_43 (dk_at dksX1_hang_1 6 rfl rfl)
theorem dX1_hang_29 : decode cX1_hang 29 = .ok (.aload_n 3, 1) := dk_45 (dk_at dksX1_hang_1 7 rfl rfl)
theorem dX1_hang_30 : decode cX1_hang 30 = .ok (.putfield 55, 3) := dk_181 0 55 (dk_at dksX1_hang_1 8 rfl rfl)
theorem dX1_hang_33 : decode cX1_hang 33 = .ok (.return_, 1) := dk_177 (dk_at dksX1_hang_1 11 rfl rfl)
abbrev cX1_find : ByteArray := prog_9_method_4_code
def yX1_find : MethodName := ⟨RX1, "find", "(I)LCreditShelf$Entry;"⟩
def dkwX1_find_1 : List UInt8 := [162, 0, 10, 44, 180, 0, 52, 167, 0, 7, 44, 180, 0, 55, 77, 167, 255, 224, 44, 176]
abbrev dktX1_find_1 : List UInt8 := dkwX1_find_1 ++ []
def dkwX1_find_0 : List UInt8 := [42, 180, 0, 7, 77, 44, 198, 0, 34, 44, 180, 0, 47, 27, 159, 0, 26, 27, 44, 180, 0, 47]
abbrev dktX1_find_0 : List UInt8 := dkwX1_find_0 ++ dktX1_find_1
theorem dksX1_find_0 : cX1_find.data.toList.drop 0 = dktX1_find_0 := by decide +kernel
theorem dksX1_find_1 : cX1_find.data.toList.drop 22 = dktX1_find_1 := dk_seg dksX1_find_0 22 rfl rfl
theorem dX1_find_0 : decode cX1_find 0 = .ok (.aload_n 0, 1) := dk_42 (dk_at dksX1_find_0 0 rfl rfl)
theorem dX1_find_1 : decode cX1_find 1 = .ok (.getfield 7, 3) := dk_180 0 7 (dk_at dksX1_find_0 1 rfl rfl)
theorem dX1_find_4 : decode cX1_find 4 = .ok (.astore_n 2, 1) := dk_77 (dk_at dksX1_find_0 4 rfl rfl)
theorem dX1_find_5 : decode cX1_find 5 = .ok (.aload_n 2, 1) := dk_44 (dk_at dksX1_find_0 5 rfl rfl)
theorem dX1_find_6 : decode cX1_find 6 = .ok (.ifnull 34, 3) := dk_198 0 34 (dk_at dksX1_find_0 6 rfl rfl)
theorem dX1_find_9 : decode cX1_find 9 = .ok (.aload_n 2, 1) := dk_44 (dk_at dksX1_find_0 9 rfl rfl)
theorem dX1_find_10 : decode cX1_find 10 = .ok (.getfield 47, 3) := dk_180 0 47 (dk_at dksX1_find_0 10 rfl rfl)
theorem dX1_find_13 : decode cX1_find 13 = .ok (.iload_n 1, 1) := dk_27 (dk_at dksX1_find_0 13 rfl rfl)
theorem dX1_find_14 : decode cX1_find 14 = .ok (.if_icmp .eq 26, 3) := dk_159 0 26 (dk_at dksX1_find_0 14 rfl rfl)
theorem dX1_find_17 : decode cX1_find 17 = .ok (.iload_n 1, 1) := dk_27 (dk_at dksX1_find_0 17 rfl rfl)
theorem dX1_find_18 : decode cX1_find 18 = .ok (.aload_n 2, 1) := dk_44 (dk_at dksX1_find_0 18 rfl rfl)
theorem dX1_find_19 : decode cX1_find 19 = .ok (.getfield 47, 3) := dk_180 0 47 (dk_at dksX1_find_0 19 rfl rfl)
theorem dX1_find_22 : decode cX1_find 22 = .ok (.if_icmp .ge 10, 3) := dk_162 0 10 (dk_at dksX1_find_1 0 rfl rfl)
theorem dX1_find_25 : decode cX1_find 25 = .ok (.aload_n 2, 1) := dk_44 (dk_at dksX1_find_1 3 rfl rfl)
theorem dX1_find_26 : decode cX1_find 26 = .ok (.getfield 52, 3) := dk_180 0 52 (dk_at dksX1_find_1 4 rfl rfl)
theorem dX1_find_29 : decode cX1_find 29 = .ok (.goto 7, 3) := dk_167 0 7 (dk_at dksX1_find_1 7 rfl rfl)
theorem dX1_find_32 : decode cX1_find 32 = .ok (.aload_n 2, 1) := dk_44 (dk_at dksX1_find_1 10 rfl rfl)
theorem dX1_find_33 : decode cX1_find 33 = .ok (.getfield 55, 3) := dk_180 0 55 (dk_at dksX1_find_1 11 rfl rfl)
theorem dX1_find_36 : decode cX1_find 36 = .ok (.astore_n 2, 1) := dk_77 (dk_at dksX1_find_1 14 rfl rfl)
theorem dX1_find_37 : decode cX1_find 37 = .ok (.goto (-32), 3) := dk_167 255 224 (dk_at dksX1_find_1 15 rfl rfl)
theorem dX1_find_40 : decode cX1_find 40 = .ok (.aload_n 2, 1) := dk_44 (dk_at dksX1_find_1 18 rfl rfl)
theorem dX1_find_41 : decode cX1_find 41 = .ok (.areturn, 1) := dk_176 (dk_at dksX1_find_1 19 rfl rfl)
abbrev cX1_take : ByteArray := prog_9_method_17_code
def yX1_take : MethodName := ⟨RX1, "take", "(I)Z"⟩
def dkwX1_take_4 : List UInt8 := [180, 0, 29, 154, 0, 10, 42, 180, 0, 29, 167, 0, 7, 42, 180, 0, 32, 181, 0, 32, 28, 172]
abbrev dktX1_take_4 : List UInt8 := dkwX1_take_4 ++ []
def dkwX1_take_3 : List UInt8 := [3, 61, 28, 153, 0, 13, 42, 1, 42, 180, 0, 7, 182, 0, 114, 87, 42, 28, 154, 0, 10, 42]
abbrev dktX1_take_3 : List UInt8 := dkwX1_take_3 ++ dktX1_take_4
def dkwX1_take_2 : List UInt8 := [180, 0, 23, 42, 180, 0, 29, 104, 42, 180, 0, 19, 42, 180, 0, 32, 104, 162, 0, 7, 4, 167, 0, 4]
abbrev dktX1_take_2 : List UInt8 := dkwX1_take_2 ++ dktX1_take_3
def dkwX1_take_1 : List UInt8 := [184, 0, 121, 181, 0, 7, 42, 89, 180, 0, 29, 4, 100, 181, 0, 29, 42, 180, 0, 29, 158, 0, 28, 42]
abbrev dktX1_take_1 : List UInt8 := dkwX1_take_1 ++ dktX1_take_2
def dkwX1_take_0 : List UInt8 := [42, 42, 180, 0, 26, 42, 27, 182, 0, 102, 182, 0, 83, 104, 182, 0, 91, 42, 42, 180, 0, 7, 27]
abbrev dktX1_take_0 : List UInt8 := dkwX1_take_0 ++ dktX1_take_1
theorem dksX1_take_0 : cX1_take.data.toList.drop 0 = dktX1_take_0 := by decide +kernel
theorem dksX1_take_1 : cX1_take.data.toList.drop 23 = dktX1_take_1 := dk_seg dksX1_take_0 23 rfl rfl
theorem dksX1_take_2 : cX1_take.data.toList.drop 47 = dktX1_take_2 := dk_seg dksX1_take_1 24 rfl rfl
theorem dksX1_take_3 : cX1_take.data.toList.drop 71 = dktX1_take_3 := dk_seg dksX1_take_2 24 rfl rfl
theorem dksX1_take_4 : cX1_take.data.toList.drop 93 = dktX1_take_4 := dk_seg dksX1_take_3 22 rfl rfl
theorem dX1_take_0 : decode cX1_take 0 = .ok (.aload_n 0, 1) := dk_42 (dk_at dksX1_take_0 0 rfl rfl)
theorem dX1_take_1 : decode cX1_take 1 = .ok (.aload_n 0, 1) := dk_42 (dk_at dksX1_take_0 1 rfl rfl)
theorem dX1_take_2 : decode cX1_take 2 = .ok (.getfield 26, 3) := dk_180 0 26 (dk_at dksX1_take_0 2 rfl rfl)
theorem dX1_take_5 : decode cX1_take 5 = .ok (.aload_n 0, 1) := dk_42 (dk_at dksX1_take_0 5 rfl rfl)
theorem dX1_take_6 : decode cX1_take 6 = .ok (.iload_n 1, 1) := dk_27 (dk_at dksX1_take_0 6 rfl rfl)
theorem dX1_take_7 : decode cX1_take 7 = .ok (.invokevirtual 102, 3) := dk_182 0 102 (dk_at dksX1_take_0 7 rfl rfl)
theorem dX1_take_10 : decode cX1_take 10 = .ok (.invokevirtual 83, 3) := dk_182 0 83 (dk_at dksX1_take_0 10 rfl rfl)
theorem dX1_take_13 : decode cX1_take 13 = .ok (.imul, 1) := dk_104 (dk_at dksX1_take_0 13 rfl rfl)
theorem dX1_take_14 : decode cX1_take 14 = .ok (.invokevirtual 91, 3) := dk_182 0 91 (dk_at dksX1_take_0 14 rfl rfl)
theorem dX1_take_17 : decode cX1_take 17 = .ok (.aload_n 0, 1) := dk_42 (dk_at dksX1_take_0 17 rfl rfl)
theorem dX1_take_18 : decode cX1_take 18 = .ok (.aload_n 0, 1) := dk_42 (dk_at dksX1_take_0 18 rfl rfl)
theorem dX1_take_19 : decode cX1_take 19 = .ok (.getfield 7, 3) := dk_180 0 7 (dk_at dksX1_take_0 19 rfl rfl)
theorem dX1_take_22 : decode cX1_take 22 = .ok (.iload_n 1, 1) := dk_27 (dk_at dksX1_take_0 22 rfl rfl)
theorem dX1_take_23 : decode cX1_take 23 = .ok (.invokestatic 121, 3) := dk_184 0 121 (dk_at dksX1_take_1 0 rfl rfl)
theorem dX1_take_26 : decode cX1_take 26 = .ok (.putfield 7, 3) := dk_181 0 7 (dk_at dksX1_take_1 3 rfl rfl)
theorem dX1_take_29 : decode cX1_take 29 = .ok (.aload_n 0, 1) := dk_42 (dk_at dksX1_take_1 6 rfl rfl)
theorem dX1_take_30 : decode cX1_take 30 = .ok (.dup, 1) := dk_89 (dk_at dksX1_take_1 7 rfl rfl)
theorem dX1_take_31 : decode cX1_take 31 = .ok (.getfield 29, 3) := dk_180 0 29 (dk_at dksX1_take_1 8 rfl rfl)
theorem dX1_take_34 : decode cX1_take 34 = .ok (.iconst 1, 1) := dk_4 (dk_at dksX1_take_1 11 rfl rfl)
theorem dX1_take_35 : decode cX1_take 35 = .ok (.isub, 1) := dk_100 (dk_at dksX1_take_1 12 rfl rfl)
theorem dX1_take_36 : decode cX1_take 36 = .ok (.putfield 29, 3) := dk_181 0 29 (dk_at dksX1_take_1 13 rfl rfl)
theorem dX1_take_39 : decode cX1_take 39 = .ok (.aload_n 0, 1) := dk_42 (dk_at dksX1_take_1 16 rfl rfl)
theorem dX1_take_40 : decode cX1_take 40 = .ok (.getfield 29, 3) := dk_180 0 29 (dk_at dksX1_take_1 17 rfl rfl)
theorem dX1_take_43 : decode cX1_take 43 = .ok (.ifCond .le 28, 3) := dk_158 0 28 (dk_at dksX1_take_1 20 rfl rfl)
theorem dX1_take_46 : decode cX1_take 46 = .ok (.aload_n 0, 1) := dk_42 (dk_at dksX1_take_1 23 rfl rfl)
theorem dX1_take_47 : decode cX1_take 47 = .ok (.getfield 23, 3) := dk_180 0 23 (dk_at dksX1_take_2 0 rfl rfl)
theorem dX1_take_50 : decode cX1_take 50 = .ok (.aload_n 0, 1) := dk_42 (dk_at dksX1_take_2 3 rfl rfl)
theorem dX1_take_51 : decode cX1_take 51 = .ok (.getfield 29, 3) := dk_180 0 29 (dk_at dksX1_take_2 4 rfl rfl)
theorem dX1_take_54 : decode cX1_take 54 = .ok (.imul, 1) := dk_104 (dk_at dksX1_take_2 7 rfl rfl)
theorem dX1_take_55 : decode cX1_take 55 = .ok (.aload_n 0, 1) := dk_42 (dk_at dksX1_take_2 8 rfl rfl)
theorem dX1_take_56 : decode cX1_take 56 = .ok (.getfield 19, 3) := dk_180 0 19 (dk_at dksX1_take_2 9 rfl rfl)
theorem dX1_take_59 : decode cX1_take 59 = .ok (.aload_n 0, 1) := dk_42 (dk_at dksX1_take_2 12 rfl rfl)
theorem dX1_take_60 : decode cX1_take 60 = .ok (.getfield 32, 3) := dk_180 0 32 (dk_at dksX1_take_2 13 rfl rfl)
theorem dX1_take_63 : decode cX1_take 63 = .ok (.imul, 1) := dk_104 (dk_at dksX1_take_2 16 rfl rfl)
theorem dX1_take_64 : decode cX1_take 64 = .ok (.if_icmp .ge 7, 3) := dk_162 0 7 (dk_at dksX1_take_2 17 rfl rfl)
theorem dX1_take_67 : decode cX1_take 67 = .ok (.iconst 1, 1) := dk_4 (dk_at dksX1_take_2 20 rfl rfl)
theorem dX1_take_68 : decode cX1_take 68 = .ok (.goto 4, 3) := dk_167 0 4 (dk_at dksX1_take_2 21 rfl rfl)
theorem dX1_take_71 : decode cX1_take 71 = .ok (.iconst 0, 1) := dk_3 (dk_at dksX1_take_3 0 rfl rfl)
theorem dX1_take_72 : decode cX1_take 72 = .ok (.istore_n 2, 1) := dk_61 (dk_at dksX1_take_3 1 rfl rfl)
theorem dX1_take_73 : decode cX1_take 73 = .ok (.iload_n 2, 1) := dk_28 (dk_at dksX1_take_3 2 rfl rfl)
theorem dX1_take_74 : decode cX1_take 74 = .ok (.ifCond .eq 13, 3) := dk_153 0 13 (dk_at dksX1_take_3 3 rfl rfl)
theorem dX1_take_77 : decode cX1_take 77 = .ok (.aload_n 0, 1) := dk_42 (dk_at dksX1_take_3 6 rfl rfl)
theorem dX1_take_78 : decode cX1_take 78 = .ok (.aconst_null, 1) := dk_1 (dk_at dksX1_take_3 7 rfl rfl)
theorem dX1_take_79 : decode cX1_take 79 = .ok (.aload_n 0, 1) := dk_42 (dk_at dksX1_take_3 8 rfl rfl)
theorem dX1_take_80 : decode cX1_take 80 = .ok (.getfield 7, 3) := dk_180 0 7 (dk_at dksX1_take_3 9 rfl rfl)
theorem dX1_take_83 : decode cX1_take 83 = .ok (.invokevirtual 114, 3) := dk_182 0 114 (dk_at dksX1_take_3 12 rfl rfl)
theorem dX1_take_86 : decode cX1_take 86 = .ok (.pop, 1) := dk_87 (dk_at dksX1_take_3 15 rfl rfl)
theorem dX1_take_87 : decode cX1_take 87 = .ok (.aload_n 0, 1) := dk_42 (dk_at dksX1_take_3 16 rfl rfl)
theorem dX1_take_88 : decode cX1_take 88 = .ok (.iload_n 2, 1) := dk_28 (dk_at dksX1_take_3 17 rfl rfl)
theorem dX1_take_89 : decode cX1_take 89 = .ok (.ifCond .ne 10, 3) := dk_154 0 10 (dk_at dksX1_take_3 18 rfl rfl)
theorem dX1_take_92 : decode cX1_take 92 = .ok (.aload_n 0, 1) := dk_42 (dk_at dksX1_take_3 21 rfl rfl)
theorem dX1_take_93 : decode cX1_take 93 = .ok (.getfield 29, 3) := dk_180 0 29 (dk_at dksX1_take_4 0 rfl rfl)
theorem dX1_take_96 : decode cX1_take 96 = .ok (.ifCond .ne 10, 3) := dk_154 0 10 (dk_at dksX1_take_4 3 rfl rfl)
theorem dX1_take_99 : decode cX1_take 99 = .ok (.aload_n 0, 1) := dk_42 (dk_at dksX1_take_4 6 rfl rfl)
theorem dX1_take_100 : decode cX1_take 100 = .ok (.getfield 29, 3) := dk_180 0 29 (dk_at dksX1_take_4 7 rfl rfl)
theorem dX1_take_103 : decode cX1_take 103 = .ok (.goto 7, 3) := dk_167 0 7 (dk_at dksX1_take_4 10 rfl rfl)
theorem dX1_take_106 : decode cX1_take 106 = .ok (.aload_n 0, 1) := dk_42 (dk_at dksX1_take_4 13 rfl rfl)
theorem dX1_take_107 : decode cX1_take 107 = .ok (.getfield 32, 3) := dk_180 0 32 (dk_at dksX1_take_4 14 rfl rfl)
theorem dX1_take_110 : decode cX1_take 110 = .ok (.putfield 32, 3) := dk_181 0 32 (dk_at dksX1_take_4 17 rfl rfl)
theorem dX1_take_113 : decode cX1_take 113 = .ok (.iload_n 2, 1) := dk_28 (dk_at dksX1_take_4 20 rfl rfl)
theorem dX1_take_114 : decode cX1_take 114 = .ok (.ireturn, 1) := dk_172 (dk_at dksX1_take_4 21 rfl rfl)
abbrev cX1_without : ByteArray := prog_9_method_16_code
def yX1_without : MethodName := ⟨RX1, "without", "(LCreditShelf$Entry;I)LCreditShelf$Entry;"⟩
def dkwX1_without_5 : List UInt8 := [42, 180, 0, 55, 44, 180, 0, 47, 184, 0, 121, 181, 0, 55, 44, 42, 180, 0, 52, 181, 0, 52, 44, 176]
abbrev dktX1_without_5 : List UInt8 := dkwX1_without_5 ++ []
def dkwX1_without_4 : List UInt8 := [199, 0, 10, 42, 180, 0, 55, 167, 0, 7, 42, 180, 0, 52, 176, 42, 180, 0, 55, 184, 0, 118, 77, 44]
abbrev dktX1_without_4 : List UInt8 := dkwX1_without_4 ++ dktX1_without_5
def dkwX1_without_3 : List UInt8 := [181, 0, 55, 42, 176, 42, 180, 0, 52, 198, 0, 10, 42, 180, 0, 55, 199, 0, 22, 42, 180, 0, 52]
abbrev dktX1_without_3 : List UInt8 := dkwX1_without_3 ++ dktX1_without_4
def dkwX1_without_2 : List UInt8 := [180, 0, 52, 181, 0, 52, 42, 27, 42, 180, 0, 47, 162, 0, 10, 42, 180, 0, 55, 167, 0, 4, 44]
abbrev dktX1_without_2 : List UInt8 := dkwX1_without_2 ++ dktX1_without_3
def dkwX1_without_1 : List UInt8 := [180, 0, 55, 27, 184, 0, 121, 77, 42, 27, 42, 180, 0, 47, 162, 0, 7, 44, 167, 0, 7, 42]
abbrev dktX1_without_1 : List UInt8 := dkwX1_without_1 ++ dktX1_without_2
def dkwX1_without_0 : List UInt8 := [27, 42, 180, 0, 47, 159, 0, 69, 27, 42, 180, 0, 47, 162, 0, 10, 42, 180, 0, 52, 167, 0, 7, 42]
abbrev dktX1_without_0 : List UInt8 := dkwX1_without_0 ++ dktX1_without_1
theorem dksX1_without_0 : cX1_without.data.toList.drop 0 = dktX1_without_0 := by decide +kernel
theorem dksX1_without_1 : cX1_without.data.toList.drop 24 = dktX1_without_1 := dk_seg dksX1_without_0 24 rfl rfl
theorem dksX1_without_2 : cX1_without.data.toList.drop 46 = dktX1_without_2 := dk_seg dksX1_without_1 22 rfl rfl
theorem dksX1_without_3 : cX1_without.data.toList.drop 69 = dktX1_without_3 := dk_seg dksX1_without_2 23 rfl rfl
theorem dksX1_without_4 : cX1_without.data.toList.drop 92 = dktX1_without_4 := dk_seg dksX1_without_3 23 rfl rfl
theorem dksX1_without_5 : cX1_without.data.toList.drop 116 = dktX1_without_5 := dk_seg dksX1_without_4 24 rfl rfl
theorem dX1_without_0 : decode cX1_without 0 = .ok (.iload_n 1, 1) := dk_27 (dk_at dksX1_without_0 0 rfl rfl)
theorem dX1_without_1 : decode cX1_without 1 = .ok (.aload_n 0, 1) := dk_42 (dk_at dksX1_without_0 1 rfl rfl)
theorem dX1_without_2 : decode cX1_without 2 = .ok (.getfield 47, 3) := dk_180 0 47 (dk_at dksX1_without_0 2 rfl rfl)
theorem dX1_without_5 : decode cX1_without 5 = .ok (.if_icmp .eq 69, 3) := dk_159 0 69 (dk_at dksX1_without_0 5 rfl rfl)
theorem dX1_without_8 : decode cX1_without 8 = .ok (.iload_n 1, 1) := dk_27 (dk_at dksX1_without_0 8 rfl rfl)
theorem dX1_without_9 : decode cX1_without 9 = .ok (.aload_n 0, 1) := dk_42 (dk_at dksX1_without_0 9 rfl rfl)
theorem dX1_without_10 : decode cX1_without 10 = .ok (.getfield 47, 3) := dk_180 0 47 (dk_at dksX1_without_0 10 rfl rfl)
theorem dX1_without_13 : decode cX1_without 13 = .ok (.if_icmp .ge 10, 3) := dk_162 0 10 (dk_at dksX1_without_0 13 rfl rfl)
theorem dX1_without_16 : decode cX1_without 16 = .ok (.aload_n 0, 1) := dk_42 (dk_at dksX1_without_0 16 rfl rfl)
theorem dX1_without_17 : decode cX1_without 17 = .ok (.getfield 52, 3) := dk_180 0 52 (dk_at dksX1_without_0 17 rfl rfl)
theorem dX1_without_20 : decode cX1_without 20 = .ok (.goto 7, 3) := dk_167 0 7 (dk_at dksX1_without_0 20 rfl rfl)
theorem dX1_without_23 : decode cX1_without 23 = .ok (.aload_n 0, 1) := dk_42 (dk_at dksX1_without_0 23 rfl rfl)
theorem dX1_without_24 : decode cX1_without 24 = .ok (.getfield 55, 3) := dk_180 0 55 (dk_at dksX1_without_1 0 rfl rfl)
theorem dX1_without_27 : decode cX1_without 27 = .ok (.iload_n 1, 1) := dk_27 (dk_at dksX1_without_1 3 rfl rfl)
theorem dX1_without_28 : decode cX1_without 28 = .ok (.invokestatic 121, 3) := dk_184 0 121 (dk_at dksX1_without_1 4 rfl rfl)
theorem dX1_without_31 : decode cX1_without 31 = .ok (.astore_n 2, 1) := dk_77 (dk_at dksX1_without_1 7 rfl rfl)
theorem dX1_without_32 : decode cX1_without 32 = .ok (.aload_n 0, 1) := dk_42 (dk_at dksX1_without_1 8 rfl rfl)
theorem dX1_without_33 : decode cX1_without 33 = .ok (.iload_n 1, 1) := dk_27 (dk_at dksX1_without_1 9 rfl rfl)
theorem dX1_without_34 : decode cX1_without 34 = .ok (.aload_n 0, 1) := dk_42 (dk_at dksX1_without_1 10 rfl rfl)
theorem dX1_without_35 : decode cX1_without 35 = .ok (.getfield 47, 3) := dk_180 0 47 (dk_at dksX1_without_1 11 rfl rfl)
theorem dX1_without_38 : decode cX1_without 38 = .ok (.if_icmp .ge 7, 3) := dk_162 0 7 (dk_at dksX1_without_1 14 rfl rfl)
theorem dX1_without_41 : decode cX1_without 41 = .ok (.aload_n 2, 1) := dk_44 (dk_at dksX1_without_1 17 rfl rfl)
theorem dX1_without_42 : decode cX1_without 42 = .ok (.goto 7, 3) := dk_167 0 7 (dk_at dksX1_without_1 18 rfl rfl)
theorem dX1_without_45 : decode cX1_without 45 = .ok (.aload_n 0, 1) := dk_42 (dk_at dksX1_without_1 21 rfl rfl)
theorem dX1_without_46 : decode cX1_without 46 = .ok (.getfield 52, 3) := dk_180 0 52 (dk_at dksX1_without_2 0 rfl rfl)
theorem dX1_without_49 : decode cX1_without 49 = .ok (.putfield 52, 3) := dk_181 0 52 (dk_at dksX1_without_2 3 rfl rfl)
theorem dX1_without_52 : decode cX1_without 52 = .ok (.aload_n 0, 1) := dk_42 (dk_at dksX1_without_2 6 rfl rfl)
theorem dX1_without_53 : decode cX1_without 53 = .ok (.iload_n 1, 1) := dk_27 (dk_at dksX1_without_2 7 rfl rfl)
theorem dX1_without_54 : decode cX1_without 54 = .ok (.aload_n 0, 1) := dk_42 (dk_at dksX1_without_2 8 rfl rfl)
theorem dX1_without_55 : decode cX1_without 55 = .ok (.getfield 47, 3) := dk_180 0 47 (dk_at dksX1_without_2 9 rfl rfl)
theorem dX1_without_58 : decode cX1_without 58 = .ok (.if_icmp .ge 10, 3) := dk_162 0 10 (dk_at dksX1_without_2 12 rfl rfl)
theorem dX1_without_61 : decode cX1_without 61 = .ok (.aload_n 0, 1) := dk_42 (dk_at dksX1_without_2 15 rfl rfl)
theorem dX1_without_62 : decode cX1_without 62 = .ok (.getfield 55, 3) := dk_180 0 55 (dk_at dksX1_without_2 16 rfl rfl)
theorem dX1_without_65 : decode cX1_without 65 = .ok (.goto 4, 3) := dk_167 0 4 (dk_at dksX1_without_2 19 rfl rfl)
theorem dX1_without_68 : decode cX1_without 68 = .ok (.aload_n 2, 1) := dk_44 (dk_at dksX1_without_2 22 rfl rfl)
theorem dX1_without_69 : decode cX1_without 69 = .ok (.putfield 55, 3) := dk_181 0 55 (dk_at dksX1_without_3 0 rfl rfl)
theorem dX1_without_72 : decode cX1_without 72 = .ok (.aload_n 0, 1) := dk_42 (dk_at dksX1_without_3 3 rfl rfl)
theorem dX1_without_73 : decode cX1_without 73 = .ok (.areturn, 1) := dk_176 (dk_at dksX1_without_3 4 rfl rfl)
theorem dX1_without_74 : decode cX1_without 74 = .ok (.aload_n 0, 1) := dk_42 (dk_at dksX1_without_3 5 rfl rfl)
theorem dX1_without_75 : decode cX1_without 75 = .ok (.getfield 52, 3) := dk_180 0 52 (dk_at dksX1_without_3 6 rfl rfl)
theorem dX1_without_78 : decode cX1_without 78 = .ok (.ifnull 10, 3) := dk_198 0 10 (dk_at dksX1_without_3 9 rfl rfl)
theorem dX1_without_81 : decode cX1_without 81 = .ok (.aload_n 0, 1) := dk_42 (dk_at dksX1_without_3 12 rfl rfl)
theorem dX1_without_82 : decode cX1_without 82 = .ok (.getfield 55, 3) := dk_180 0 55 (dk_at dksX1_without_3 13 rfl rfl)
theorem dX1_without_85 : decode cX1_without 85 = .ok (.ifnonnull 22, 3) := dk_199 0 22 (dk_at dksX1_without_3 16 rfl rfl)
theorem dX1_without_88 : decode cX1_without 88 = .ok (.aload_n 0, 1) := dk_42 (dk_at dksX1_without_3 19 rfl rfl)
theorem dX1_without_89 : decode cX1_without 89 = .ok (.getfield 52, 3) := dk_180 0 52 (dk_at dksX1_without_3 20 rfl rfl)
theorem dX1_without_92 : decode cX1_without 92 = .ok (.ifnonnull 10, 3) := dk_199 0 10 (dk_at dksX1_without_4 0 rfl rfl)
theorem dX1_without_95 : decode cX1_without 95 = .ok (.aload_n 0, 1) := dk_42 (dk_at dksX1_without_4 3 rfl rfl)
theorem dX1_without_96 : decode cX1_without 96 = .ok (.getfield 55, 3) := dk_180 0 55 (dk_at dksX1_without_4 4 rfl rfl)
theorem dX1_without_99 : decode cX1_without 99 = .ok (.goto 7, 3) := dk_167 0 7 (dk_at dksX1_without_4 7 rfl rfl)
theorem dX1_without_102 : decode cX1_without 102 = .ok (.aload_n 0, 1) := dk_42 (dk_at dksX1_without_4 10 rfl rfl)
theorem dX1_without_103 : decode cX1_without 103 = .ok (.getfield 52, 3) := dk_180 0 52 (dk_at dksX1_without_4 11 rfl rfl)
theorem dX1_without_106 : decode cX1_without 106 = .ok (.areturn, 1) := dk_176 (dk_at dksX1_without_4 14 rfl rfl)
theorem dX1_without_107 : decode cX1_without 107 = .ok (.aload_n 0, 1) := dk_42 (dk_at dksX1_without_4 15 rfl rfl)
theorem dX1_without_108 : decode cX1_without 108 = .ok (.getfield 55, 3) := dk_180 0 55 (dk_at dksX1_without_4 16 rfl rfl)
theorem dX1_without_111 : decode cX1_without 111 = .ok (.invokestatic 118, 3) := dk_184 0 118 (dk_at dksX1_without_4 19 rfl rfl)
theorem dX1_without_114 : decode cX1_without 114 = .ok (.astore_n 2, 1) := dk_77 (dk_at dksX1_without_4 22 rfl rfl)
theorem dX1_without_115 : decode cX1_without 115 = .ok (.aload_n 2, 1) := dk_44 (dk_at dksX1_without_4 23 rfl rfl)
theorem dX1_without_116 : decode cX1_without 116 = .ok (.aload_n 0, 1) := dk_42 (dk_at dksX1_without_5 0 rfl rfl)
theorem dX1_without_117 : decode cX1_without 117 = .ok (.getfield 55, 3) := dk_180 0 55 (dk_at dksX1_without_5 1 rfl rfl)
theorem dX1_without_120 : decode cX1_without 120 = .ok (.aload_n 2, 1) := dk_44 (dk_at dksX1_without_5 4 rfl rfl)
theorem dX1_without_121 : decode cX1_without 121 = .ok (.getfield 47, 3) := dk_180 0 47 (dk_at dksX1_without_5 5 rfl rfl)
theorem dX1_without_124 : decode cX1_without 124 = .ok (.invokestatic 121, 3) := dk_184 0 121 (dk_at dksX1_without_5 8 rfl rfl)
theorem dX1_without_127 : decode cX1_without 127 = .ok (.putfield 55, 3) := dk_181 0 55 (dk_at dksX1_without_5 11 rfl rfl)
theorem dX1_without_130 : decode cX1_without 130 = .ok (.aload_n 2, 1) := dk_44 (dk_at dksX1_without_5 14 rfl rfl)
theorem dX1_without_131 : decode cX1_without 131 = .ok (.aload_n 0, 1) := dk_42 (dk_at dksX1_without_5 15 rfl rfl)
theorem dX1_without_132 : decode cX1_without 132 = .ok (.getfield 52, 3) := dk_180 0 52 (dk_at dksX1_without_5 16 rfl rfl)
theorem dX1_without_135 : decode cX1_without 135 = .ok (.putfield 52, 3) := dk_181 0 52 (dk_at dksX1_without_5 19 rfl rfl)
theorem dX1_without_138 : decode cX1_without 138 = .ok (.aload_n 2, 1) := dk_44 (dk_at dksX1_without_5 22 rfl rfl)
theorem dX1_without_139 : decode cX1_without 139 = .ok (.areturn, 1) := dk_176 (dk_at dksX1_without_5 23 rfl rfl)
abbrev cX1_leastOf : ByteArray := prog_9_method_15_code
def yX1_leastOf : MethodName := ⟨RX1, "leastOf", "(LCreditShelf$Entry;)LCreditShelf$Entry;"⟩
def dkwX1_leastOf_0 : List UInt8 := [42, 180, 0, 52, 199, 0, 7, 42, 167, 0, 10, 42, 180, 0, 52, 184, 0, 118, 176]
abbrev dktX1_leastOf_0 : List UInt8 := dkwX1_leastOf_0 ++ []
theorem dksX1_leastOf_0 : cX1_leastOf.data.toList.drop 0 = dktX1_leastOf_0 := by decide +kernel
theorem dX1_leastOf_0 : decode cX1_leastOf 0 = .ok (.aload_n 0, 1) := dk_42 (dk_at dksX1_leastOf_0 0 rfl rfl)
theorem dX1_leastOf_1 : decode cX1_leastOf 1 = .ok (.getfield 52, 3) := dk_180 0 52 (dk_at dksX1_leastOf_0 1 rfl rfl)
theorem dX1_leastOf_4 : decode cX1_leastOf 4 = .ok (.ifnonnull 7, 3) := dk_199 0 7 (dk_at dksX1_leastOf_0 4 rfl rfl)
theorem dX1_leastOf_7 : decode cX1_leastOf 7 = .ok (.aload_n 0, 1) := dk_42 (dk_at dksX1_leastOf_0 7 rfl rfl)
theorem dX1_leastOf_8 : decode cX1_leastOf 8 = .ok (.goto 10, 3) := dk_167 0 10 (dk_at dksX1_leastOf_0 8 rfl rfl)
theorem dX1_leastOf_11 : decode cX1_leastOf 11 = .ok (.aload_n 0, 1) := dk_42 (dk_at dksX1_leastOf_0 11 rfl rfl)
theorem dX1_leastOf_12 : decode cX1_leastOf 12 = .ok (.getfield 52, 3) := dk_180 0 52 (dk_at dksX1_leastOf_0 12 rfl rfl)
theorem dX1_leastOf_15 : decode cX1_leastOf 15 = .ok (.invokestatic 118, 3) := dk_184 0 118 (dk_at dksX1_leastOf_0 15 rfl rfl)
theorem dX1_leastOf_18 : decode cX1_leastOf 18 = .ok (.areturn, 1) := dk_176 (dk_at dksX1_leastOf_0 18 rfl rfl)
abbrev cX1_would : ByteArray := prog_9_method_14_code
def yX1_would : MethodName := ⟨RX1, "would", "(I)I"⟩
def dkwX1_would_4 : List UInt8 := [167, 255, 180, 3, 172]
abbrev dktX1_would_4 : List UInt8 := dkwX1_would_4 ++ []
def dkwX1_would_3 : List UInt8 := [100, 184, 0, 99, 104, 42, 180, 0, 19, 21, 6, 104, 164, 0, 6, 21, 6, 172, 21, 6, 62, 132, 4, 255]
abbrev dktX1_would_3 : List UInt8 := dkwX1_would_3 ++ dktX1_would_4
def dkwX1_would_2 : List UInt8 := [192, 0, 48, 58, 5, 25, 5, 184, 0, 95, 4, 96, 54, 6, 42, 180, 0, 23, 29, 21, 6, 4, 100, 29]
abbrev dktX1_would_2 : List UInt8 := dkwX1_would_2 ++ dktX1_would_3
def dkwX1_would_1 : List UInt8 := [182, 0, 83, 42, 42, 180, 0, 29, 4, 96, 182, 0, 106, 164, 0, 60, 44, 21, 4, 182, 0, 75]
abbrev dktX1_would_1 : List UInt8 := dkwX1_would_1 ++ dktX1_would_2
def dkwX1_would_0 : List UInt8 := [42, 27, 182, 0, 102, 77, 4, 62, 44, 182, 0, 83, 4, 100, 54, 4, 21, 4, 155, 0, 77, 44]
abbrev dktX1_would_0 : List UInt8 := dkwX1_would_0 ++ dktX1_would_1
theorem dksX1_would_0 : cX1_would.data.toList.drop 0 = dktX1_would_0 := by decide +kernel
theorem dksX1_would_1 : cX1_would.data.toList.drop 22 = dktX1_would_1 := dk_seg dksX1_would_0 22 rfl rfl
theorem dksX1_would_2 : cX1_would.data.toList.drop 44 = dktX1_would_2 := dk_seg dksX1_would_1 22 rfl rfl
theorem dksX1_would_3 : cX1_would.data.toList.drop 68 = dktX1_would_3 := dk_seg dksX1_would_2 24 rfl rfl
theorem dksX1_would_4 : cX1_would.data.toList.drop 92 = dktX1_would_4 := dk_seg dksX1_would_3 24 rfl rfl
theorem dX1_would_0 : decode cX1_would 0 = .ok (.aload_n 0, 1) := dk_42 (dk_at dksX1_would_0 0 rfl rfl)
theorem dX1_would_1 : decode cX1_would 1 = .ok (.iload_n 1, 1) := dk_27 (dk_at dksX1_would_0 1 rfl rfl)
theorem dX1_would_2 : decode cX1_would 2 = .ok (.invokevirtual 102, 3) := dk_182 0 102 (dk_at dksX1_would_0 2 rfl rfl)
theorem dX1_would_5 : decode cX1_would 5 = .ok (.astore_n 2, 1) := dk_77 (dk_at dksX1_would_0 5 rfl rfl)
theorem dX1_would_6 : decode cX1_would 6 = .ok (.iconst 1, 1) := dk_4 (dk_at dksX1_would_0 6 rfl rfl)
theorem dX1_would_7 : decode cX1_would 7 = .ok (.istore_n 3, 1) := dk_62 (dk_at dksX1_would_0 7 rfl rfl)
theorem dX1_would_8 : decode cX1_would 8 = .ok (.aload_n 2, 1) := dk_44 (dk_at dksX1_would_0 8 rfl rfl)
theorem dX1_would_9 : decode cX1_would 9 = .ok (.invokevirtual 83, 3) := dk_182 0 83 (dk_at dksX1_would_0 9 rfl rfl)
theorem dX1_would_12 : decode cX1_would 12 = .ok (.iconst 1, 1) := dk_4 (dk_at dksX1_would_0 12 rfl rfl)
theorem dX1_would_13 : decode cX1_would 13 = .ok (.isub, 1) := dk_100 (dk_at dksX1_would_0 13 rfl rfl)
theorem dX1_would_14 : decode cX1_would 14 = .ok (.istore 4, 2) := dk_54 4 (dk_at dksX1_would_0 14 rfl rfl)
theorem dX1_would_16 : decode cX1_would 16 = .ok (.iload 4, 2) := dk_21 4 (dk_at dksX1_would_0 16 rfl rfl)
theorem dX1_would_18 : decode cX1_would 18 = .ok (.ifCond .lt 77, 3) := dk_155 0 77 (dk_at dksX1_would_0 18 rfl rfl)
theorem dX1_would_21 : decode cX1_would 21 = .ok (.aload_n 2, 1) := dk_44 (dk_at dksX1_would_0 21 rfl rfl)
theorem dX1_would_22 : decode cX1_would 22 = .ok (.invokevirtual 83, 3) := dk_182 0 83 (dk_at dksX1_would_1 0 rfl rfl)
theorem dX1_would_25 : decode cX1_would 25 = .ok (.aload_n 0, 1) := dk_42 (dk_at dksX1_would_1 3 rfl rfl)
theorem dX1_would_26 : decode cX1_would 26 = .ok (.aload_n 0, 1) := dk_42 (dk_at dksX1_would_1 4 rfl rfl)
theorem dX1_would_27 : decode cX1_would 27 = .ok (.getfield 29, 3) := dk_180 0 29 (dk_at dksX1_would_1 5 rfl rfl)
theorem dX1_would_30 : decode cX1_would 30 = .ok (.iconst 1, 1) := dk_4 (dk_at dksX1_would_1 8 rfl rfl)
theorem dX1_would_31 : decode cX1_would 31 = .ok (.iadd, 1) := dk_96 (dk_at dksX1_would_1 9 rfl rfl)
theorem dX1_would_32 : decode cX1_would 32 = .ok (.invokevirtual 106, 3) := dk_182 0 106 (dk_at dksX1_would_1 10 rfl rfl)
theorem dX1_would_35 : decode cX1_would 35 = .ok (.if_icmp .le 60, 3) := dk_164 0 60 (dk_at dksX1_would_1 13 rfl rfl)
theorem dX1_would_38 : decode cX1_would 38 = .ok (.aload_n 2, 1) := dk_44 (dk_at dksX1_would_1 16 rfl rfl)
theorem dX1_would_39 : decode cX1_would 39 = .ok (.iload 4, 2) := dk_21 4 (dk_at dksX1_would_1 17 rfl rfl)
theorem dX1_would_41 : decode cX1_would 41 = .ok (.invokevirtual 75, 3) := dk_182 0 75 (dk_at dksX1_would_1 19 rfl rfl)
theorem dX1_would_44 : decode cX1_would 44 = .ok (.checkcast 48, 3) := dk_192 0 48 (dk_at dksX1_would_2 0 rfl rfl)
theorem dX1_would_47 : decode cX1_would 47 = .ok (.astore 5, 2) := dk_58 5 (dk_at dksX1_would_2 3 rfl rfl)
theorem dX1_would_49 : decode cX1_would 49 = .ok (.aload 5, 2) := dk_25 5 (dk_at dksX1_would_2 5 rfl rfl)
theorem dX1_would_51 : decode cX1_would 51 = .ok (.invokestatic 95, 3) := dk_184 0 95 (dk_at dksX1_would_2 7 rfl rfl)
theorem dX1_would_54 : decode cX1_would 54 = .ok (.iconst 1, 1) := dk_4 (dk_at dksX1_would_2 10 rfl rfl)
theorem dX1_would_55 : decode cX1_would 55 = .ok (.iadd, 1) := dk_96 (dk_at dksX1_would_2 11 rfl rfl)
theorem dX1_would_56 : decode cX1_would 56 = .ok (.istore 6, 2) := dk_54 6 (dk_at dksX1_would_2 12 rfl rfl)
theorem dX1_would_58 : decode cX1_would 58 = .ok (.aload_n 0, 1) := dk_42 (dk_at dksX1_would_2 14 rfl rfl)
theorem dX1_would_59 : decode cX1_would 59 = .ok (.getfield 23, 3) := dk_180 0 23 (dk_at dksX1_would_2 15 rfl rfl)
theorem dX1_would_62 : decode cX1_would 62 = .ok (.iload_n 3, 1) := dk_29 (dk_at dksX1_would_2 18 rfl rfl)
theorem dX1_would_63 : decode cX1_would 63 = .ok (.iload 6, 2) := dk_21 6 (dk_at dksX1_would_2 19 rfl rfl)
theorem dX1_would_65 : decode cX1_would 65 = .ok (.iconst 1, 1) := dk_4 (dk_at dksX1_would_2 21 rfl rfl)
theorem dX1_would_66 : decode cX1_would 66 = .ok (.isub, 1) := dk_100 (dk_at dksX1_would_2 22 rfl rfl)
theorem dX1_would_67 : decode cX1_would 67 = .ok (.iload_n 3, 1) := dk_29 (dk_at dksX1_would_2 23 rfl rfl)
theorem dX1_would_68 : decode cX1_would 68 = .ok (.isub, 1) := dk_100 (dk_at dksX1_would_3 0 rfl rfl)
theorem dX1_would_69 : decode cX1_would 69 = .ok (.invokestatic 99, 3) := dk_184 0 99 (dk_at dksX1_would_3 1 rfl rfl)
theorem dX1_would_72 : decode cX1_would 72 = .ok (.imul, 1) := dk_104 (dk_at dksX1_would_3 4 rfl rfl)
theorem dX1_would_73 : decode cX1_would 73 = .ok (.aload_n 0, 1) := dk_42 (dk_at dksX1_would_3 5 rfl rfl)
theorem dX1_would_74 : decode cX1_would 74 = .ok (.getfield 19, 3) := dk_180 0 19 (dk_at dksX1_would_3 6 rfl rfl)
theorem dX1_would_77 : decode cX1_would 77 = .ok (.iload 6, 2) := dk_21 6 (dk_at dksX1_would_3 9 rfl rfl)
theorem dX1_would_79 : decode cX1_would 79 = .ok (.imul, 1) := dk_104 (dk_at dksX1_would_3 11 rfl rfl)
theorem dX1_would_80 : decode cX1_would 80 = .ok (.if_icmp .le 6, 3) := dk_164 0 6 (dk_at dksX1_would_3 12 rfl rfl)
theorem dX1_would_83 : decode cX1_would 83 = .ok (.iload 6, 2) := dk_21 6 (dk_at dksX1_would_3 15 rfl rfl)
theorem dX1_would_85 : decode cX1_would 85 = .ok (.ireturn, 1) := dk_172 (dk_at dksX1_would_3 17 rfl rfl)
theorem dX1_would_86 : decode cX1_would 86 = .ok (.iload 6, 2) := dk_21 6 (dk_at dksX1_would_3 18 rfl rfl)
theorem dX1_would_88 : decode cX1_would 88 = .ok (.istore_n 3, 1) := dk_62 (dk_at dksX1_would_3 20 rfl rfl)
theorem dX1_would_89 : decode cX1_would 89 = .ok (.iinc 4 (-1), 3) := dk_132 4 255 (dk_at dksX1_would_3 21 rfl rfl)
theorem dX1_would_92 : decode cX1_would 92 = .ok (.goto (-76), 3) := dk_167 255 180 (dk_at dksX1_would_4 0 rfl rfl)
theorem dX1_would_95 : decode cX1_would 95 = .ok (.iconst 0, 1) := dk_3 (dk_at dksX1_would_4 3 rfl rfl)
theorem dX1_would_96 : decode cX1_would 96 = .ok (.ireturn, 1) := dk_172 (dk_at dksX1_would_4 4 rfl rfl)
abbrev cX1_like : ByteArray := prog_9_method_2_code
def yX1_like : MethodName := ⟨RX1, "like", "(LCreditShelf$Tree;)LCreditShelf$Tree;"⟩
def dkwX1_like_3 : List UInt8 := [181, 0, 41, 42, 43, 180, 0, 44, 181, 0, 44, 42, 176]
abbrev dktX1_like_3 : List UInt8 := dkwX1_like_3 ++ []
def dkwX1_like_2 : List UInt8 := [181, 0, 32, 42, 43, 180, 0, 35, 181, 0, 35, 42, 43, 180, 0, 38, 181, 0, 38, 42, 43, 180, 0, 41]
abbrev dktX1_like_2 : List UInt8 := dkwX1_like_2 ++ dktX1_like_3
def dkwX1_like_1 : List UInt8 := [181, 0, 23, 42, 43, 180, 0, 26, 181, 0, 26, 42, 43, 180, 0, 29, 181, 0, 29, 42, 43, 180, 0, 32]
abbrev dktX1_like_1 : List UInt8 := dkwX1_like_1 ++ dktX1_like_2
def dkwX1_like_0 : List UInt8 := [42, 43, 180, 0, 7, 184, 0, 13, 181, 0, 7, 42, 43, 180, 0, 19, 181, 0, 19, 42, 43, 180, 0, 23]
abbrev dktX1_like_0 : List UInt8 := dkwX1_like_0 ++ dktX1_like_1
theorem dksX1_like_0 : cX1_like.data.toList.drop 0 = dktX1_like_0 := by decide +kernel
theorem dksX1_like_1 : cX1_like.data.toList.drop 24 = dktX1_like_1 := dk_seg dksX1_like_0 24 rfl rfl
theorem dksX1_like_2 : cX1_like.data.toList.drop 48 = dktX1_like_2 := dk_seg dksX1_like_1 24 rfl rfl
theorem dksX1_like_3 : cX1_like.data.toList.drop 72 = dktX1_like_3 := dk_seg dksX1_like_2 24 rfl rfl
theorem dX1_like_0 : decode cX1_like 0 = .ok (.aload_n 0, 1) := dk_42 (dk_at dksX1_like_0 0 rfl rfl)
theorem dX1_like_1 : decode cX1_like 1 = .ok (.aload_n 1, 1) := dk_43 (dk_at dksX1_like_0 1 rfl rfl)
theorem dX1_like_2 : decode cX1_like 2 = .ok (.getfield 7, 3) := dk_180 0 7 (dk_at dksX1_like_0 2 rfl rfl)
theorem dX1_like_5 : decode cX1_like 5 = .ok (.invokestatic 13, 3) := dk_184 0 13 (dk_at dksX1_like_0 5 rfl rfl)
theorem dX1_like_8 : decode cX1_like 8 = .ok (.putfield 7, 3) := dk_181 0 7 (dk_at dksX1_like_0 8 rfl rfl)
theorem dX1_like_11 : decode cX1_like 11 = .ok (.aload_n 0, 1) := dk_42 (dk_at dksX1_like_0 11 rfl rfl)
theorem dX1_like_12 : decode cX1_like 12 = .ok (.aload_n 1, 1) := dk_43 (dk_at dksX1_like_0 12 rfl rfl)
theorem dX1_like_13 : decode cX1_like 13 = .ok (.getfield 19, 3) := dk_180 0 19 (dk_at dksX1_like_0 13 rfl rfl)
theorem dX1_like_16 : decode cX1_like 16 = .ok (.putfield 19, 3) := dk_181 0 19 (dk_at dksX1_like_0 16 rfl rfl)
theorem dX1_like_19 : decode cX1_like 19 = .ok (.aload_n 0, 1) := dk_42 (dk_at dksX1_like_0 19 rfl rfl)
theorem dX1_like_20 : decode cX1_like 20 = .ok (.aload_n 1, 1) := dk_43 (dk_at dksX1_like_0 20 rfl rfl)
theorem dX1_like_21 : decode cX1_like 21 = .ok (.getfield 23, 3) := dk_180 0 23 (dk_at dksX1_like_0 21 rfl rfl)
theorem dX1_like_24 : decode cX1_like 24 = .ok (.putfield 23, 3) := dk_181 0 23 (dk_at dksX1_like_1 0 rfl rfl)
theorem dX1_like_27 : decode cX1_like 27 = .ok (.aload_n 0, 1) := dk_42 (dk_at dksX1_like_1 3 rfl rfl)
theorem dX1_like_28 : decode cX1_like 28 = .ok (.aload_n 1, 1) := dk_43 (dk_at dksX1_like_1 4 rfl rfl)
theorem dX1_like_29 : decode cX1_like 29 = .ok (.getfield 26, 3) := dk_180 0 26 (dk_at dksX1_like_1 5 rfl rfl)
theorem dX1_like_32 : decode cX1_like 32 = .ok (.putfield 26, 3) := dk_181 0 26 (dk_at dksX1_like_1 8 rfl rfl)
theorem dX1_like_35 : decode cX1_like 35 = .ok (.aload_n 0, 1) := dk_42 (dk_at dksX1_like_1 11 rfl rfl)
theorem dX1_like_36 : decode cX1_like 36 = .ok (.aload_n 1, 1) := dk_43 (dk_at dksX1_like_1 12 rfl rfl)
theorem dX1_like_37 : decode cX1_like 37 = .ok (.getfield 29, 3) := dk_180 0 29 (dk_at dksX1_like_1 13 rfl rfl)
theorem dX1_like_40 : decode cX1_like 40 = .ok (.putfield 29, 3) := dk_181 0 29 (dk_at dksX1_like_1 16 rfl rfl)
theorem dX1_like_43 : decode cX1_like 43 = .ok (.aload_n 0, 1) := dk_42 (dk_at dksX1_like_1 19 rfl rfl)
theorem dX1_like_44 : decode cX1_like 44 = .ok (.aload_n 1, 1) := dk_43 (dk_at dksX1_like_1 20 rfl rfl)
theorem dX1_like_45 : decode cX1_like 45 = .ok (.getfield 32, 3) := dk_180 0 32 (dk_at dksX1_like_1 21 rfl rfl)
theorem dX1_like_48 : decode cX1_like 48 = .ok (.putfield 32, 3) := dk_181 0 32 (dk_at dksX1_like_2 0 rfl rfl)
theorem dX1_like_51 : decode cX1_like 51 = .ok (.aload_n 0, 1) := dk_42 (dk_at dksX1_like_2 3 rfl rfl)
theorem dX1_like_52 : decode cX1_like 52 = .ok (.aload_n 1, 1) := dk_43 (dk_at dksX1_like_2 4 rfl rfl)
theorem dX1_like_53 : decode cX1_like 53 = .ok (.getfield 35, 3) := dk_180 0 35 (dk_at dksX1_like_2 5 rfl rfl)
theorem dX1_like_56 : decode cX1_like 56 = .ok (.putfield 35, 3) := dk_181 0 35 (dk_at dksX1_like_2 8 rfl rfl)
theorem dX1_like_59 : decode cX1_like 59 = .ok (.aload_n 0, 1) := dk_42 (dk_at dksX1_like_2 11 rfl rfl)
theorem dX1_like_60 : decode cX1_like 60 = .ok (.aload_n 1, 1) := dk_43 (dk_at dksX1_like_2 12 rfl rfl)
theorem dX1_like_61 : decode cX1_like 61 = .ok (.getfield 38, 3) := dk_180 0 38 (dk_at dksX1_like_2 13 rfl rfl)
theorem dX1_like_64 : decode cX1_like 64 = .ok (.putfield 38, 3) := dk_181 0 38 (dk_at dksX1_like_2 16 rfl rfl)
theorem dX1_like_67 : decode cX1_like 67 = .ok (.aload_n 0, 1) := dk_42 (dk_at dksX1_like_2 19 rfl rfl)
theorem dX1_like_68 : decode cX1_like 68 = .ok (.aload_n 1, 1) := dk_43 (dk_at dksX1_like_2 20 rfl rfl)
theorem dX1_like_69 : decode cX1_like 69 = .ok (.getfield 41, 3) := dk_180 0 41 (dk_at dksX1_like_2 21 rfl rfl)
theorem dX1_like_72 : decode cX1_like 72 = .ok (.putfield 41, 3) := dk_181 0 41 (dk_at dksX1_like_3 0 rfl rfl)
theorem dX1_like_75 : decode cX1_like 75 = .ok (.aload_n 0, 1) := dk_42 (dk_at dksX1_like_3 3 rfl rfl)
theorem dX1_like_76 : decode cX1_like 76 = .ok (.aload_n 1, 1) := dk_43 (dk_at dksX1_like_3 4 rfl rfl)
theorem dX1_like_77 : decode cX1_like 77 = .ok (.getfield 44, 3) := dk_180 0 44 (dk_at dksX1_like_3 5 rfl rfl)
theorem dX1_like_80 : decode cX1_like 80 = .ok (.putfield 44, 3) := dk_181 0 44 (dk_at dksX1_like_3 8 rfl rfl)
theorem dX1_like_83 : decode cX1_like 83 = .ok (.aload_n 0, 1) := dk_42 (dk_at dksX1_like_3 11 rfl rfl)
theorem dX1_like_84 : decode cX1_like 84 = .ok (.areturn, 1) := dk_176 (dk_at dksX1_like_3 12 rfl rfl)
theorem q83 : (Jvm.Cond.initialized "CreditShelf$Tree") ∈ lw_all := lw_g (lw_at lw_m1 2 rfl) rfl
theorem q113 : (Jvm.Cond.instantiable "CreditShelf$Tree" (10 : Nat)) ∈ lw_all := lw_g (lw_at lw_m1 32 rfl) rfl
theorem q115 : (Jvm.Cond.instanceMethod ({ cls := "CreditShelf$Tree", name := "<init>", desc := "()V" } : Jvm.MethodName)) ∈ lw_all := lw_g (lw_at lw_m1 34 rfl) rfl
theorem q116 : (Jvm.Cond.code ({ cls := "CreditShelf$Tree", name := "<init>", desc := "()V" } : Jvm.MethodName) prog_9_method_1_code (1 : Nat) (Option.none : Option Jvm.ClassFile.FieldType)) ∈ lw_all := lw_g (lw_at lw_m1 35 rfl) rfl
theorem q117 : (Jvm.Cond.methodLink "CreditShelf$Tree" (1 : Nat) ({ cls := "java/lang/Object", name := "<init>", desc := "()V" } : Jvm.MethodName)) ∈ lw_all := lw_g (lw_at lw_m1 36 rfl) rfl
theorem q118 : (Jvm.Cond.fieldLink "CreditShelf$Tree" (7 : Nat) "CreditShelf$Tree" "top" "LCreditShelf$Entry;") ∈ lw_all := lw_g (lw_at lw_m1 37 rfl) rfl
theorem q120 : (Jvm.Cond.fieldLink "CreditShelf$Tree" (19 : Nat) "CreditShelf$Tree" "a" "I") ∈ lw_all := lw_g (lw_at lw_m1 39 rfl) rfl
theorem q122 : (Jvm.Cond.fieldLink "CreditShelf$Tree" (23 : Nat) "CreditShelf$Tree" "b" "I") ∈ lw_all := lw_g (lw_at lw_m1 41 rfl) rfl
theorem q124 : (Jvm.Cond.fieldLink "CreditShelf$Tree" (26 : Nat) "CreditShelf$Tree" "fee" "I") ∈ lw_all := lw_g (lw_at lw_m1 43 rfl) rfl
theorem q126 : (Jvm.Cond.fieldLink "CreditShelf$Tree" (29 : Nat) "CreditShelf$Tree" "many" "I") ∈ lw_all := lw_g (lw_at lw_m1 45 rfl) rfl
theorem q128 : (Jvm.Cond.fieldLink "CreditShelf$Tree" (32 : Nat) "CreditShelf$Tree" "most" "I") ∈ lw_all := lw_g (lw_at lw_m1 47 rfl) rfl
theorem q130 : (Jvm.Cond.fieldLink "CreditShelf$Tree" (35 : Nat) "CreditShelf$Tree" "credit" "I") ∈ lw_all := lw_g (lw_at lw_m1 49 rfl) rfl
theorem q132 : (Jvm.Cond.fieldLink "CreditShelf$Tree" (38 : Nat) "CreditShelf$Tree" "lowest" "I") ∈ lw_all := lw_g (lw_at lw_m1 51 rfl) rfl
theorem q134 : (Jvm.Cond.fieldLink "CreditShelf$Tree" (41 : Nat) "CreditShelf$Tree" "buildings" "I") ∈ lw_all := lw_g (lw_at lw_m1 53 rfl) rfl
theorem q136 : (Jvm.Cond.fieldLink "CreditShelf$Tree" (44 : Nat) "CreditShelf$Tree" "cost" "I") ∈ lw_all := lw_g (lw_at lw_m1 55 rfl) rfl
theorem q138 : (Jvm.Cond.lays "CreditShelf$Tree" "CreditShelf$Tree" "top" "LCreditShelf$Entry;") ∈ lw_all := lw_g (lw_at lw_m1 57 rfl) rfl
theorem q139 : (Jvm.Cond.soleField "CreditShelf$Tree" "top") ∈ lw_all := lw_g (lw_at lw_m1 58 rfl) rfl
theorem q140 : (Jvm.Cond.lays "CreditShelf$Tree" "CreditShelf$Tree" "a" "I") ∈ lw_all := lw_g (lw_at lw_m1 59 rfl) rfl
theorem q141 : (Jvm.Cond.soleField "CreditShelf$Tree" "a") ∈ lw_all := lw_g (lw_at lw_m1 60 rfl) rfl
theorem q142 : (Jvm.Cond.lays "CreditShelf$Tree" "CreditShelf$Tree" "b" "I") ∈ lw_all := lw_g (lw_at lw_m1 61 rfl) rfl
theorem q143 : (Jvm.Cond.soleField "CreditShelf$Tree" "b") ∈ lw_all := lw_g (lw_at lw_m1 62 rfl) rfl
theorem q144 : (Jvm.Cond.lays "CreditShelf$Tree" "CreditShelf$Tree" "fee" "I") ∈ lw_all := lw_g (lw_at lw_m1 63 rfl) rfl
theorem q145 : (Jvm.Cond.soleField "CreditShelf$Tree" "fee") ∈ lw_all := lw_g (lw_at lw_m1 64 rfl) rfl
theorem q146 : (Jvm.Cond.lays "CreditShelf$Tree" "CreditShelf$Tree" "many" "I") ∈ lw_all := lw_g (lw_at lw_m1 65 rfl) rfl
theorem q147 : (Jvm.Cond.soleField "CreditShelf$Tree" "many") ∈ lw_all := lw_g (lw_at lw_m1 66 rfl) rfl
theorem q148 : (Jvm.Cond.lays "CreditShelf$Tree" "CreditShelf$Tree" "most" "I") ∈ lw_all := lw_g (lw_at lw_m1 67 rfl) rfl
theorem q149 : (Jvm.Cond.soleField "CreditShelf$Tree" "most") ∈ lw_all := lw_g (lw_at lw_m1 68 rfl) rfl
theorem q150 : (Jvm.Cond.lays "CreditShelf$Tree" "CreditShelf$Tree" "credit" "I") ∈ lw_all := lw_g (lw_at lw_m1 69 rfl) rfl
theorem q151 : (Jvm.Cond.soleField "CreditShelf$Tree" "credit") ∈ lw_all := lw_g (lw_at lw_m1 70 rfl) rfl
theorem q152 : (Jvm.Cond.lays "CreditShelf$Tree" "CreditShelf$Tree" "lowest" "I") ∈ lw_all := lw_g (lw_at lw_m1 71 rfl) rfl
theorem q153 : (Jvm.Cond.soleField "CreditShelf$Tree" "lowest") ∈ lw_all := lw_g (lw_at lw_m1 72 rfl) rfl
theorem q154 : (Jvm.Cond.lays "CreditShelf$Tree" "CreditShelf$Tree" "buildings" "I") ∈ lw_all := lw_g (lw_at lw_m1 73 rfl) rfl
theorem q155 : (Jvm.Cond.soleField "CreditShelf$Tree" "buildings") ∈ lw_all := lw_g (lw_at lw_m1 74 rfl) rfl
theorem q156 : (Jvm.Cond.lays "CreditShelf$Tree" "CreditShelf$Tree" "cost" "I") ∈ lw_all := lw_g (lw_at lw_m1 75 rfl) rfl
theorem q157 : (Jvm.Cond.soleField "CreditShelf$Tree" "cost") ∈ lw_all := lw_g (lw_at lw_m1 76 rfl) rfl
theorem q158 : (Jvm.Cond.superclass "CreditShelf$Tree" "java/lang/Object") ∈ lw_all := lw_g (lw_at lw_m1 77 rfl) rfl
theorem q424 : (Jvm.Cond.fieldLink "CreditShelf$Tree" (47 : Nat) "CreditShelf$Entry" "key" "I") ∈ lw_all := lw_g (lw_at lw_m2 103 rfl) rfl
theorem q428 : (Jvm.Cond.fieldLink "CreditShelf$Tree" (52 : Nat) "CreditShelf$Entry" "left" "LCreditShelf$Entry;") ∈ lw_all := lw_g (lw_at lw_m2 107 rfl) rfl
theorem q430 : (Jvm.Cond.fieldLink "CreditShelf$Tree" (55 : Nat) "CreditShelf$Entry" "right" "LCreditShelf$Entry;") ∈ lw_all := lw_g (lw_at lw_m2 109 rfl) rfl
theorem q522 : (Jvm.Cond.selects "CreditShelf$Tree" ({ cls := "java/lang/Object", name := "getClass", desc := "()Ljava/lang/Class;" } : Jvm.MethodName) ({ cls := "java/lang/Object", name := "getClass", desc := "()Ljava/lang/Class;" } : Jvm.MethodName)) ∈ lw_all := lw_g (lw_at lw_m2 201 rfl) rfl
theorem q547 : (Jvm.Cond.instanceMethod ({ cls := "CreditShelf$Tree", name := "empty", desc := "(III)LCreditShelf$Tree;" } : Jvm.MethodName)) ∈ lw_all := lw_g (lw_at lw_m2 226 rfl) rfl
theorem q548 : (Jvm.Cond.selects "CreditShelf$Tree" ({ cls := "CreditShelf$Tree", name := "empty", desc := "(III)LCreditShelf$Tree;" } : Jvm.MethodName) ({ cls := "CreditShelf$Tree", name := "empty", desc := "(III)LCreditShelf$Tree;" } : Jvm.MethodName)) ∈ lw_all := lw_g (lw_at lw_m2 227 rfl) rfl
theorem q549 : (Jvm.Cond.code ({ cls := "CreditShelf$Tree", name := "empty", desc := "(III)LCreditShelf$Tree;" } : Jvm.MethodName) prog_9_method_3_code (4 : Nat) (Option.some (Jvm.ClassFile.FieldType.object "CreditShelf$Tree"))) ∈ lw_all := lw_g (lw_at lw_m2 228 rfl) rfl
theorem q561 : (Jvm.Cond.instanceMethod ({ cls := "CreditShelf$Tree", name := "put", desc := "(LCreditShelf$Entry;)I" } : Jvm.MethodName)) ∈ lw_all := lw_g (lw_at lw_m3 0 rfl) rfl
theorem q562 : (Jvm.Cond.selects "CreditShelf$Tree" ({ cls := "CreditShelf$Tree", name := "put", desc := "(LCreditShelf$Entry;)I" } : Jvm.MethodName) ({ cls := "CreditShelf$Tree", name := "put", desc := "(LCreditShelf$Entry;)I" } : Jvm.MethodName)) ∈ lw_all := lw_g (lw_at lw_m3 1 rfl) rfl
theorem q563 : (Jvm.Cond.code ({ cls := "CreditShelf$Tree", name := "put", desc := "(LCreditShelf$Entry;)I" } : Jvm.MethodName) prog_9_method_13_code (5 : Nat) (Option.some Jvm.ClassFile.FieldType.int)) ∈ lw_all := lw_g (lw_at lw_m3 2 rfl) rfl
theorem q564 : (Jvm.Cond.methodLink "CreditShelf$Tree" (102 : Nat) ({ cls := "CreditShelf$Tree", name := "wayTo", desc := "(I)Ljava/util/ArrayList;" } : Jvm.MethodName)) ∈ lw_all := lw_g (lw_at lw_m3 3 rfl) rfl
theorem q565 : (Jvm.Cond.instanceMethod ({ cls := "CreditShelf$Tree", name := "wayTo", desc := "(I)Ljava/util/ArrayList;" } : Jvm.MethodName)) ∈ lw_all := lw_g (lw_at lw_m3 4 rfl) rfl
theorem q566 : (Jvm.Cond.selects "CreditShelf$Tree" ({ cls := "CreditShelf$Tree", name := "wayTo", desc := "(I)Ljava/util/ArrayList;" } : Jvm.MethodName) ({ cls := "CreditShelf$Tree", name := "wayTo", desc := "(I)Ljava/util/ArrayList;" } : Jvm.MethodName)) ∈ lw_all := lw_g (lw_at lw_m3 5 rfl) rfl
theorem q567 : (Jvm.Cond.code ({ cls := "CreditShelf$Tree", name := "wayTo", desc := "(I)Ljava/util/ArrayList;" } : Jvm.MethodName) prog_9_method_5_code (4 : Nat) (Option.some (Jvm.ClassFile.FieldType.object "java/util/ArrayList"))) ∈ lw_all := lw_g (lw_at lw_m3 6 rfl) rfl
theorem q568 : (Jvm.Cond.classLink "CreditShelf$Tree" (58 : Nat) "java/util/ArrayList") ∈ lw_all := lw_g (lw_at lw_m3 7 rfl) rfl
theorem q569 : (Jvm.Cond.methodLink "CreditShelf$Tree" (60 : Nat) ({ cls := "java/util/ArrayList", name := "<init>", desc := "()V" } : Jvm.MethodName)) ∈ lw_all := lw_g (lw_at lw_m3 8 rfl) rfl
theorem q570 : (Jvm.Cond.methodLink "CreditShelf$Tree" (61 : Nat) ({ cls := "java/util/ArrayList", name := "add", desc := "(Ljava/lang/Object;)Z" } : Jvm.MethodName)) ∈ lw_all := lw_g (lw_at lw_m3 9 rfl) rfl
theorem q571 : (Jvm.Cond.methodLink "CreditShelf$Tree" (83 : Nat) ({ cls := "java/util/ArrayList", name := "size", desc := "()I" } : Jvm.MethodName)) ∈ lw_all := lw_g (lw_at lw_m3 10 rfl) rfl
theorem q572 : (Jvm.Cond.methodLink "CreditShelf$Tree" (75 : Nat) ({ cls := "java/util/ArrayList", name := "get", desc := "(I)Ljava/lang/Object;" } : Jvm.MethodName)) ∈ lw_all := lw_g (lw_at lw_m3 11 rfl) rfl
theorem q573 : (Jvm.Cond.classLink "CreditShelf$Tree" (48 : Nat) "CreditShelf$Entry") ∈ lw_all := lw_g (lw_at lw_m3 12 rfl) rfl
theorem q574 : (Jvm.Cond.methodLink "CreditShelf$Tree" (99 : Nat) ({ cls := "java/lang/Math", name := "max", desc := "(II)I" } : Jvm.MethodName)) ∈ lw_all := lw_g (lw_at lw_m3 13 rfl) rfl
theorem q575 : (Jvm.Cond.methodLink "CreditShelf$Tree" (91 : Nat) ({ cls := "CreditShelf$Tree", name := "pay", desc := "(I)V" } : Jvm.MethodName)) ∈ lw_all := lw_g (lw_at lw_m3 14 rfl) rfl
theorem q576 : (Jvm.Cond.privateMethod ({ cls := "CreditShelf$Tree", name := "pay", desc := "(I)V" } : Jvm.MethodName)) ∈ lw_tbl := lw_at lw_m3 15 rfl
theorem q577 : (Jvm.Cond.instanceMethod ({ cls := "CreditShelf$Tree", name := "pay", desc := "(I)V" } : Jvm.MethodName)) ∈ lw_all := lw_g (lw_at lw_m3 16 rfl) rfl
theorem q578 : (Jvm.Cond.code ({ cls := "CreditShelf$Tree", name := "pay", desc := "(I)V" } : Jvm.MethodName) prog_9_method_7_code (2 : Nat) (Option.none : Option Jvm.ClassFile.FieldType)) ∈ lw_all := lw_g (lw_at lw_m3 17 rfl) rfl
theorem q579 : (Jvm.Cond.methodLink "CreditShelf$Tree" (65 : Nat) ({ cls := "java/lang/Math", name := "min", desc := "(II)I" } : Jvm.MethodName)) ∈ lw_all := lw_g (lw_at lw_m3 18 rfl) rfl
theorem q580 : (Jvm.Cond.methodLink "CreditShelf$Tree" (106 : Nat) ({ cls := "CreditShelf$Tree", name := "limit", desc := "(I)I" } : Jvm.MethodName)) ∈ lw_all := lw_g (lw_at lw_m3 19 rfl) rfl
theorem q581 : (Jvm.Cond.instanceMethod ({ cls := "CreditShelf$Tree", name := "limit", desc := "(I)I" } : Jvm.MethodName)) ∈ lw_all := lw_g (lw_at lw_m3 20 rfl) rfl
theorem q582 : (Jvm.Cond.selects "CreditShelf$Tree" ({ cls := "CreditShelf$Tree", name := "limit", desc := "(I)I" } : Jvm.MethodName) ({ cls := "CreditShelf$Tree", name := "limit", desc := "(I)I" } : Jvm.MethodName)) ∈ lw_all := lw_g (lw_at lw_m3 21 rfl) rfl
theorem q583 : (Jvm.Cond.code ({ cls := "CreditShelf$Tree", name := "limit", desc := "(I)I" } : Jvm.MethodName) prog_9_method_6_code (7 : Nat) (Option.some Jvm.ClassFile.FieldType.int)) ∈ lw_all := lw_g (lw_at lw_m3 22 rfl) rfl
theorem q584 : (Jvm.Cond.methodLink "CreditShelf$Tree" (110 : Nat) ({ cls := "CreditShelf$Tree", name := "isTooMuch", desc := "(LCreditShelf$Entry;)Z" } : Jvm.MethodName)) ∈ lw_all := lw_g (lw_at lw_m3 23 rfl) rfl
theorem q585 : (Jvm.Cond.privateMethod ({ cls := "CreditShelf$Tree", name := "isTooMuch", desc := "(LCreditShelf$Entry;)Z" } : Jvm.MethodName)) ∈ lw_tbl := lw_at lw_m3 24 rfl
theorem q586 : (Jvm.Cond.instanceMethod ({ cls := "CreditShelf$Tree", name := "isTooMuch", desc := "(LCreditShelf$Entry;)Z" } : Jvm.MethodName)) ∈ lw_all := lw_g (lw_at lw_m3 25 rfl) rfl
theorem q587 : (Jvm.Cond.code ({ cls := "CreditShelf$Tree", name := "isTooMuch", desc := "(LCreditShelf$Entry;)Z" } : Jvm.MethodName) prog_9_method_12_code (2 : Nat) (Option.some Jvm.ClassFile.FieldType.boolean)) ∈ lw_all := lw_g (lw_at lw_m3 26 rfl) rfl
theorem q588 : (Jvm.Cond.methodLinkNest "CreditShelf$Tree" (95 : Nat) ({ cls := "CreditShelf", name := "sizeOf", desc := "(LCreditShelf$Entry;)I" } : Jvm.MethodName) "CreditShelf") ∈ lw_tbl := lw_at lw_m3 27 rfl
theorem q592 : (Jvm.Cond.methodLink "CreditShelf$Tree" (114 : Nat) ({ cls := "CreditShelf$Tree", name := "build", desc := "(LCreditShelf$Entry;LCreditShelf$Entry;)I" } : Jvm.MethodName)) ∈ lw_all := lw_g (lw_at lw_m3 31 rfl) rfl
theorem q593 : (Jvm.Cond.instanceMethod ({ cls := "CreditShelf$Tree", name := "build", desc := "(LCreditShelf$Entry;LCreditShelf$Entry;)I" } : Jvm.MethodName)) ∈ lw_all := lw_g (lw_at lw_m3 32 rfl) rfl
theorem q594 : (Jvm.Cond.selects "CreditShelf$Tree" ({ cls := "CreditShelf$Tree", name := "build", desc := "(LCreditShelf$Entry;LCreditShelf$Entry;)I" } : Jvm.MethodName) ({ cls := "CreditShelf$Tree", name := "build", desc := "(LCreditShelf$Entry;LCreditShelf$Entry;)I" } : Jvm.MethodName)) ∈ lw_all := lw_g (lw_at lw_m3 33 rfl) rfl
theorem q595 : (Jvm.Cond.code ({ cls := "CreditShelf$Tree", name := "build", desc := "(LCreditShelf$Entry;LCreditShelf$Entry;)I" } : Jvm.MethodName) prog_9_method_11_code (4 : Nat) (Option.some Jvm.ClassFile.FieldType.int)) ∈ lw_all := lw_g (lw_at lw_m3 34 rfl) rfl
theorem q596 : (Jvm.Cond.methodLink "CreditShelf$Tree" (71 : Nat) ({ cls := "CreditShelf$Tree", name := "collect", desc := "(LCreditShelf$Entry;Ljava/util/ArrayList;)V" } : Jvm.MethodName)) ∈ lw_all := lw_g (lw_at lw_m3 35 rfl) rfl
theorem q597 : (Jvm.Cond.static ({ cls := "CreditShelf$Tree", name := "collect", desc := "(LCreditShelf$Entry;Ljava/util/ArrayList;)V" } : Jvm.MethodName)) ∈ lw_all := lw_g (lw_at lw_m3 36 rfl) rfl
theorem q598 : (Jvm.Cond.code ({ cls := "CreditShelf$Tree", name := "collect", desc := "(LCreditShelf$Entry;Ljava/util/ArrayList;)V" } : Jvm.MethodName) prog_9_method_8_code (2 : Nat) (Option.none : Option Jvm.ClassFile.FieldType)) ∈ lw_all := lw_g (lw_at lw_m3 37 rfl) rfl
theorem q599 : (Jvm.Cond.methodLink "CreditShelf$Tree" (79 : Nat) ({ cls := "CreditShelf$Tree", name := "flat", desc := "(Ljava/util/ArrayList;II)LCreditShelf$Entry;" } : Jvm.MethodName)) ∈ lw_all := lw_g (lw_at lw_m3 38 rfl) rfl
theorem q600 : (Jvm.Cond.static ({ cls := "CreditShelf$Tree", name := "flat", desc := "(Ljava/util/ArrayList;II)LCreditShelf$Entry;" } : Jvm.MethodName)) ∈ lw_all := lw_g (lw_at lw_m3 39 rfl) rfl
theorem q601 : (Jvm.Cond.code ({ cls := "CreditShelf$Tree", name := "flat", desc := "(Ljava/util/ArrayList;II)LCreditShelf$Entry;" } : Jvm.MethodName) prog_9_method_9_code (4 : Nat) (Option.some (Jvm.ClassFile.FieldType.object "CreditShelf$Entry"))) ∈ lw_all := lw_g (lw_at lw_m3 40 rfl) rfl
theorem q602 : (Jvm.Cond.methodLink "CreditShelf$Tree" (87 : Nat) ({ cls := "CreditShelf$Tree", name := "hang", desc := "(LCreditShelf$Entry;LCreditShelf$Entry;LCreditShelf$Entry;)V" } : Jvm.MethodName)) ∈ lw_all := lw_g (lw_at lw_m3 41 rfl) rfl
theorem q603 : (Jvm.Cond.privateMethod ({ cls := "CreditShelf$Tree", name := "hang", desc := "(LCreditShelf$Entry;LCreditShelf$Entry;LCreditShelf$Entry;)V" } : Jvm.MethodName)) ∈ lw_tbl := lw_at lw_m3 42 rfl
theorem q604 : (Jvm.Cond.instanceMethod ({ cls := "CreditShelf$Tree", name := "hang", desc := "(LCreditShelf$Entry;LCreditShelf$Entry;LCreditShelf$Entry;)V" } : Jvm.MethodName)) ∈ lw_all := lw_g (lw_at lw_m3 43 rfl) rfl
theorem q605 : (Jvm.Cond.code ({ cls := "CreditShelf$Tree", name := "hang", desc := "(LCreditShelf$Entry;LCreditShelf$Entry;LCreditShelf$Entry;)V" } : Jvm.MethodName) prog_9_method_10_code (4 : Nat) (Option.none : Option Jvm.ClassFile.FieldType)) ∈ lw_all := lw_g (lw_at lw_m3 44 rfl) rfl
theorem q611 : (Jvm.Cond.instanceMethod ({ cls := "CreditShelf$Tree", name := "find", desc := "(I)LCreditShelf$Entry;" } : Jvm.MethodName)) ∈ lw_all := lw_g (lw_at lw_m3 50 rfl) rfl
theorem q612 : (Jvm.Cond.selects "CreditShelf$Tree" ({ cls := "CreditShelf$Tree", name := "find", desc := "(I)LCreditShelf$Entry;" } : Jvm.MethodName) ({ cls := "CreditShelf$Tree", name := "find", desc := "(I)LCreditShelf$Entry;" } : Jvm.MethodName)) ∈ lw_all := lw_g (lw_at lw_m3 51 rfl) rfl
theorem q613 : (Jvm.Cond.code ({ cls := "CreditShelf$Tree", name := "find", desc := "(I)LCreditShelf$Entry;" } : Jvm.MethodName) prog_9_method_4_code (3 : Nat) (Option.some (Jvm.ClassFile.FieldType.object "CreditShelf$Entry"))) ∈ lw_all := lw_g (lw_at lw_m3 52 rfl) rfl
theorem q730 : (Jvm.Cond.instanceMethod ({ cls := "CreditShelf$Tree", name := "take", desc := "(I)Z" } : Jvm.MethodName)) ∈ lw_all := lw_g (lw_at lw_m3 169 rfl) rfl
theorem q731 : (Jvm.Cond.selects "CreditShelf$Tree" ({ cls := "CreditShelf$Tree", name := "take", desc := "(I)Z" } : Jvm.MethodName) ({ cls := "CreditShelf$Tree", name := "take", desc := "(I)Z" } : Jvm.MethodName)) ∈ lw_all := lw_g (lw_at lw_m3 170 rfl) rfl
theorem q732 : (Jvm.Cond.code ({ cls := "CreditShelf$Tree", name := "take", desc := "(I)Z" } : Jvm.MethodName) prog_9_method_17_code (3 : Nat) (Option.some Jvm.ClassFile.FieldType.boolean)) ∈ lw_all := lw_g (lw_at lw_m3 171 rfl) rfl
theorem q733 : (Jvm.Cond.methodLink "CreditShelf$Tree" (121 : Nat) ({ cls := "CreditShelf$Tree", name := "without", desc := "(LCreditShelf$Entry;I)LCreditShelf$Entry;" } : Jvm.MethodName)) ∈ lw_all := lw_g (lw_at lw_m3 172 rfl) rfl
theorem q734 : (Jvm.Cond.static ({ cls := "CreditShelf$Tree", name := "without", desc := "(LCreditShelf$Entry;I)LCreditShelf$Entry;" } : Jvm.MethodName)) ∈ lw_all := lw_g (lw_at lw_m3 173 rfl) rfl
theorem q735 : (Jvm.Cond.code ({ cls := "CreditShelf$Tree", name := "without", desc := "(LCreditShelf$Entry;I)LCreditShelf$Entry;" } : Jvm.MethodName) prog_9_method_16_code (3 : Nat) (Option.some (Jvm.ClassFile.FieldType.object "CreditShelf$Entry"))) ∈ lw_all := lw_g (lw_at lw_m3 174 rfl) rfl
theorem q736 : (Jvm.Cond.methodLink "CreditShelf$Tree" (118 : Nat) ({ cls := "CreditShelf$Tree", name := "leastOf", desc := "(LCreditShelf$Entry;)LCreditShelf$Entry;" } : Jvm.MethodName)) ∈ lw_all := lw_g (lw_at lw_m3 175 rfl) rfl
theorem q737 : (Jvm.Cond.static ({ cls := "CreditShelf$Tree", name := "leastOf", desc := "(LCreditShelf$Entry;)LCreditShelf$Entry;" } : Jvm.MethodName)) ∈ lw_all := lw_g (lw_at lw_m3 176 rfl) rfl
theorem q738 : (Jvm.Cond.code ({ cls := "CreditShelf$Tree", name := "leastOf", desc := "(LCreditShelf$Entry;)LCreditShelf$Entry;" } : Jvm.MethodName) prog_9_method_15_code (1 : Nat) (Option.some (Jvm.ClassFile.FieldType.object "CreditShelf$Entry"))) ∈ lw_all := lw_g (lw_at lw_m3 177 rfl) rfl
theorem q794 : (Jvm.Cond.instanceMethod ({ cls := "CreditShelf$Tree", name := "would", desc := "(I)I" } : Jvm.MethodName)) ∈ lw_all := lw_g (lw_at lw_m3 233 rfl) rfl
theorem q795 : (Jvm.Cond.selects "CreditShelf$Tree" ({ cls := "CreditShelf$Tree", name := "would", desc := "(I)I" } : Jvm.MethodName) ({ cls := "CreditShelf$Tree", name := "would", desc := "(I)I" } : Jvm.MethodName)) ∈ lw_all := lw_g (lw_at lw_m3 234 rfl) rfl
theorem q796 : (Jvm.Cond.code ({ cls := "CreditShelf$Tree", name := "would", desc := "(I)I" } : Jvm.MethodName) prog_9_method_14_code (7 : Nat) (Option.some Jvm.ClassFile.FieldType.int)) ∈ lw_all := lw_g (lw_at lw_m3 235 rfl) rfl
theorem q825 : (Jvm.Cond.instanceMethod ({ cls := "CreditShelf$Tree", name := "like", desc := "(LCreditShelf$Tree;)LCreditShelf$Tree;" } : Jvm.MethodName)) ∈ lw_all := lw_g (lw_at lw_m4 24 rfl) rfl
theorem q826 : (Jvm.Cond.selects "CreditShelf$Tree" ({ cls := "CreditShelf$Tree", name := "like", desc := "(LCreditShelf$Tree;)LCreditShelf$Tree;" } : Jvm.MethodName) ({ cls := "CreditShelf$Tree", name := "like", desc := "(LCreditShelf$Tree;)LCreditShelf$Tree;" } : Jvm.MethodName)) ∈ lw_all := lw_g (lw_at lw_m4 25 rfl) rfl
theorem q827 : (Jvm.Cond.code ({ cls := "CreditShelf$Tree", name := "like", desc := "(LCreditShelf$Tree;)LCreditShelf$Tree;" } : Jvm.MethodName) prog_9_method_2_code (2 : Nat) (Option.some (Jvm.ClassFile.FieldType.object "CreditShelf$Tree"))) ∈ lw_all := lw_g (lw_at lw_m4 26 rfl) rfl
theorem q828 : (Jvm.Cond.methodLinkNest "CreditShelf$Tree" (13 : Nat) ({ cls := "CreditShelf", name := "copyOf", desc := "(LCreditShelf$Entry;)LCreditShelf$Entry;" } : Jvm.MethodName) "CreditShelf") ∈ lw_tbl := lw_at lw_m4 27 rfl
theorem q1408 : (Jvm.Cond.castable "CreditShelf$Tree" "java/lang/Object") ∈ lw_tbl := lw_at lw_m6 127 rfl
theorem in_X1 : ∀ w ∈ wsX10, w ∈ lw_all := lw_in wsX10 [138, 140, 142, 144, 146, 148, 150, 152, 154, 156] (by decide +kernel) (by decide +kernel)

/-! the law's own entry -/
set_option maxRecDepth 100000
abbrev cL_law : ByteArray := code
def dkwL_law_29 : List UInt8 := [132, 3, 4, 167, 253, 23, 4, 172]
abbrev dktL_law_29 : List UInt8 := dkwL_law_29 ++ []
def dkwL_law_28 : List UInt8 := [182, 0, 113, 159, 0, 19, 3, 172, 43, 182, 0, 114, 44, 182, 0, 118, 148, 153, 0, 5, 3, 172]
abbrev dktL_law_28 : List UInt8 := dkwL_law_28 ++ dktL_law_29
def dkwL_law_27 : List UInt8 := [182, 0, 109, 159, 0, 42, 3, 172, 43, 42, 29, 4, 96, 46, 182, 0, 110, 44, 42, 29, 4, 96, 46]
abbrev dktL_law_27 : List UInt8 := dkwL_law_27 ++ dktL_law_28
def dkwL_law_26 : List UInt8 := [159, 0, 68, 3, 172, 43, 182, 0, 102, 44, 182, 0, 105, 159, 0, 55, 3, 172, 43, 182, 0, 106, 44]
abbrev dktL_law_26 : List UInt8 := dkwL_law_26 ++ dktL_law_27
def dkwL_law_25 : List UInt8 := [96, 46, 182, 0, 98, 44, 42, 29, 4, 96, 46, 42, 29, 5, 96, 46, 42, 29, 6, 96, 46, 182, 0, 101]
abbrev dktL_law_25 : List UInt8 := dkwL_law_25 ++ dktL_law_26
def dkwL_law_24 : List UInt8 := [96, 46, 182, 0, 97, 159, 0, 111, 3, 172, 43, 42, 29, 4, 96, 46, 42, 29, 5, 96, 46, 42, 29, 6]
abbrev dktL_law_24 : List UInt8 := dkwL_law_24 ++ dktL_law_25
def dkwL_law_23 : List UInt8 := [172, 43, 42, 29, 4, 96, 46, 42, 29, 5, 96, 46, 182, 0, 94, 44, 42, 29, 4, 96, 46, 42, 29, 5]
abbrev dktL_law_23 : List UInt8 := dkwL_law_23 ++ dktL_law_24
def dkwL_law_22 : List UInt8 := [167, 0, 4, 3, 182, 0, 89, 159, 0, 157, 3, 172, 43, 182, 0, 90, 44, 182, 0, 93, 159, 0, 144, 3]
abbrev dktL_law_22 : List UInt8 := dkwL_law_22 ++ dktL_law_23
def dkwL_law_21 : List UInt8 := [3, 182, 0, 85, 44, 42, 29, 4, 96, 46, 42, 29, 5, 96, 46, 42, 29, 6, 96, 46, 153, 0, 7, 4]
abbrev dktL_law_21 : List UInt8 := dkwL_law_21 ++ dktL_law_22
def dkwL_law_20 : List UInt8 := [172, 43, 42, 29, 4, 96, 46, 42, 29, 5, 96, 46, 42, 29, 6, 96, 46, 153, 0, 7, 4, 167, 0, 4]
abbrev dktL_law_20 : List UInt8 := dkwL_law_20 ++ dktL_law_21
def dkwL_law_19 : List UInt8 := [29, 6, 96, 46, 182, 0, 80, 159, 0, 229, 3, 172, 43, 182, 0, 81, 44, 182, 0, 84, 159, 0, 216, 3]
abbrev dktL_law_19 : List UInt8 := dkwL_law_19 ++ dktL_law_20
def dkwL_law_18 : List UInt8 := [29, 5, 96, 46, 42, 29, 6, 96, 46, 182, 0, 77, 44, 42, 29, 4, 96, 46, 42, 29, 5, 96, 46, 42]
abbrev dktL_law_18 : List UInt8 := dkwL_law_18 ++ dktL_law_19
def dkwL_law_17 : List UInt8 := [182, 0, 73, 44, 42, 29, 4, 96, 46, 182, 0, 76, 159, 1, 16, 3, 172, 43, 42, 29, 4, 96, 46, 42]
abbrev dktL_law_17 : List UInt8 := dkwL_law_17 ++ dktL_law_18
def dkwL_law_16 : List UInt8 := [182, 0, 69, 44, 42, 29, 4, 96, 46, 182, 0, 72, 159, 1, 39, 3, 172, 43, 42, 29, 4, 96, 46]
abbrev dktL_law_16 : List UInt8 := dkwL_law_16 ++ dktL_law_17
def dkwL_law_15 : List UInt8 := [182, 0, 65, 44, 42, 29, 4, 96, 46, 182, 0, 68, 159, 1, 62, 3, 172, 43, 42, 29, 4, 96, 46]
abbrev dktL_law_15 : List UInt8 := dkwL_law_15 ++ dktL_law_16
def dkwL_law_14 : List UInt8 := [159, 1, 98, 3, 172, 43, 182, 0, 61, 44, 182, 0, 64, 159, 1, 85, 3, 172, 43, 42, 29, 4, 96, 46]
abbrev dktL_law_14 : List UInt8 := dkwL_law_14 ++ dktL_law_15
def dkwL_law_13 : List UInt8 := [159, 1, 121, 3, 172, 43, 42, 29, 4, 96, 46, 182, 0, 57, 44, 42, 29, 4, 96, 46, 182, 0, 60]
abbrev dktL_law_13 : List UInt8 := dkwL_law_13 ++ dktL_law_14
def dkwL_law_12 : List UInt8 := [159, 1, 144, 3, 172, 43, 42, 29, 4, 96, 46, 182, 0, 53, 44, 42, 29, 4, 96, 46, 182, 0, 56]
abbrev dktL_law_12 : List UInt8 := dkwL_law_12 ++ dktL_law_13
def dkwL_law_11 : List UInt8 := [182, 0, 48, 44, 42, 29, 4, 96, 46, 42, 29, 5, 96, 46, 42, 29, 6, 96, 46, 182, 0, 52]
abbrev dktL_law_11 : List UInt8 := dkwL_law_11 ++ dktL_law_12
def dkwL_law_10 : List UInt8 := [182, 0, 47, 159, 1, 187, 3, 172, 43, 42, 29, 4, 96, 46, 42, 29, 5, 96, 46, 42, 29, 6, 96, 46]
abbrev dktL_law_10 : List UInt8 := dkwL_law_10 ++ dktL_law_11
def dkwL_law_9 : List UInt8 := [182, 0, 43, 159, 1, 210, 3, 172, 43, 42, 29, 4, 96, 46, 182, 0, 44, 44, 42, 29, 4, 96, 46]
abbrev dktL_law_9 : List UInt8 := dkwL_law_9 ++ dktL_law_10
def dkwL_law_8 : List UInt8 := [182, 0, 39, 159, 1, 233, 3, 172, 43, 42, 29, 4, 96, 46, 182, 0, 40, 44, 42, 29, 4, 96, 46]
abbrev dktL_law_8 : List UInt8 := dkwL_law_8 ++ dktL_law_9
def dkwL_law_7 : List UInt8 := [42, 29, 4, 96, 46, 42, 29, 5, 96, 46, 182, 0, 36, 44, 42, 29, 4, 96, 46, 42, 29, 5, 96, 46]
abbrev dktL_law_7 : List UInt8 := dkwL_law_7 ++ dktL_law_8
def dkwL_law_6 : List UInt8 := [46, 182, 0, 31, 44, 42, 29, 4, 96, 46, 42, 29, 5, 96, 46, 182, 0, 35, 159, 2, 10, 3, 172, 43]
abbrev dktL_law_6 : List UInt8 := dkwL_law_6 ++ dktL_law_7
def dkwL_law_5 : List UInt8 := [172, 43, 182, 0, 27, 44, 182, 0, 30, 159, 2, 43, 3, 172, 43, 42, 29, 4, 96, 46, 42, 29, 5, 96]
abbrev dktL_law_5 : List UInt8 := dkwL_law_5 ++ dktL_law_6
def dkwL_law_4 : List UInt8 := [182, 0, 18, 44, 182, 0, 22, 159, 2, 69, 3, 172, 43, 182, 0, 23, 44, 182, 0, 26, 159, 2, 56, 3]
abbrev dktL_law_4 : List UInt8 := dkwL_law_4 ++ dktL_law_5
def dkwL_law_3 : List UInt8 := [43, 42, 29, 4, 96, 46, 182, 0, 13, 44, 42, 29, 4, 96, 46, 182, 0, 17, 159, 2, 82, 3, 172, 43]
abbrev dktL_law_3 : List UInt8 := dkwL_law_3 ++ dktL_law_4
def dkwL_law_2 : List UInt8 := [170, 0, 0, 0, 0, 0, 2, 216, 0, 0, 0, 0, 0, 0, 0, 24, 0, 0, 0, 116, 0, 0, 0, 139, 0, 0, 0, 152, 0, 0, 0, 165, 0, 0, 0, 178, 0, 0, 0, 211, 0, 0, 0, 244, 0, 0, 1, 11, 0, 0, 1, 34, 0, 0, 1, 77, 0, 0, 1, 100, 0, 0, 1, 123, 0, 0, 1, 136, 0, 0, 1, 159, 0, 0, 1, 182, 0, 0, 1, 205, 0, 0, 1, 248, 0, 0, 2, 5, 0, 0, 2, 64, 0, 0, 2, 77, 0, 0, 2, 110, 0, 0, 2, 153, 0, 0, 2, 166, 0, 0, 2, 179, 0, 0, 2, 202]
abbrev dktL_law_2 : List UInt8 := dkwL_law_2 ++ dktL_law_3
def dkwL_law_1 : List UInt8 := [163, 2, 231, 42, 29, 46, 16, 31, 126]
abbrev dktL_law_1 : List UInt8 := dkwL_law_1 ++ dktL_law_2
def dkwL_law_0 : List UInt8 := [187, 0, 7, 89, 183, 0, 9, 76, 187, 0, 10, 89, 183, 0, 12, 77, 3, 62, 29, 42, 190, 7, 100]
abbrev dktL_law_0 : List UInt8 := dkwL_law_0 ++ dktL_law_1
theorem dksL_law_0 : cL_law.data.toList.drop 0 = dktL_law_0 := by decide +kernel
theorem dksL_law_1 : cL_law.data.toList.drop 23 = dktL_law_1 := dk_seg dksL_law_0 23 rfl rfl
theorem dksL_law_2 : cL_law.data.toList.drop 32 = dktL_law_2 := dk_seg dksL_law_1 9 rfl rfl
theorem dksL_law_3 : cL_law.data.toList.drop 148 = dktL_law_3 := dk_seg dksL_law_2 116 rfl rfl
theorem dksL_law_4 : cL_law.data.toList.drop 172 = dktL_law_4 := dk_seg dksL_law_3 24 rfl rfl
theorem dksL_law_5 : cL_law.data.toList.drop 196 = dktL_law_5 := dk_seg dksL_law_4 24 rfl rfl
theorem dksL_law_6 : cL_law.data.toList.drop 220 = dktL_law_6 := dk_seg dksL_law_5 24 rfl rfl
theorem dksL_law_7 : cL_law.data.toList.drop 244 = dktL_law_7 := dk_seg dksL_law_6 24 rfl rfl
theorem dksL_law_8 : cL_law.data.toList.drop 268 = dktL_law_8 := dk_seg dksL_law_7 24 rfl rfl
theorem dksL_law_9 : cL_law.data.toList.drop 291 = dktL_law_9 := dk_seg dksL_law_8 23 rfl rfl
theorem dksL_law_10 : cL_law.data.toList.drop 314 = dktL_law_10 := dk_seg dksL_law_9 23 rfl rfl
theorem dksL_law_11 : cL_law.data.toList.drop 338 = dktL_law_11 := dk_seg dksL_law_10 24 rfl rfl
theorem dksL_law_12 : cL_law.data.toList.drop 360 = dktL_law_12 := dk_seg dksL_law_11 22 rfl rfl
theorem dksL_law_13 : cL_law.data.toList.drop 383 = dktL_law_13 := dk_seg dksL_law_12 23 rfl rfl
theorem dksL_law_14 : cL_law.data.toList.drop 406 = dktL_law_14 := dk_seg dksL_law_13 23 rfl rfl
theorem dksL_law_15 : cL_law.data.toList.drop 430 = dktL_law_15 := dk_seg dksL_law_14 24 rfl rfl
theorem dksL_law_16 : cL_law.data.toList.drop 453 = dktL_law_16 := dk_seg dksL_law_15 23 rfl rfl
theorem dksL_law_17 : cL_law.data.toList.drop 476 = dktL_law_17 := dk_seg dksL_law_16 23 rfl rfl
theorem dksL_law_18 : cL_law.data.toList.drop 500 = dktL_law_18 := dk_seg dksL_law_17 24 rfl rfl
theorem dksL_law_19 : cL_law.data.toList.drop 524 = dktL_law_19 := dk_seg dksL_law_18 24 rfl rfl
theorem dksL_law_20 : cL_law.data.toList.drop 548 = dktL_law_20 := dk_seg dksL_law_19 24 rfl rfl
theorem dksL_law_21 : cL_law.data.toList.drop 572 = dktL_law_21 := dk_seg dksL_law_20 24 rfl rfl
theorem dksL_law_22 : cL_law.data.toList.drop 596 = dktL_law_22 := dk_seg dksL_law_21 24 rfl rfl
theorem dksL_law_23 : cL_law.data.toList.drop 620 = dktL_law_23 := dk_seg dksL_law_22 24 rfl rfl
theorem dksL_law_24 : cL_law.data.toList.drop 644 = dktL_law_24 := dk_seg dksL_law_23 24 rfl rfl
theorem dksL_law_25 : cL_law.data.toList.drop 668 = dktL_law_25 := dk_seg dksL_law_24 24 rfl rfl
theorem dksL_law_26 : cL_law.data.toList.drop 692 = dktL_law_26 := dk_seg dksL_law_25 24 rfl rfl
theorem dksL_law_27 : cL_law.data.toList.drop 715 = dktL_law_27 := dk_seg dksL_law_26 23 rfl rfl
theorem dksL_law_28 : cL_law.data.toList.drop 738 = dktL_law_28 := dk_seg dksL_law_27 23 rfl rfl
theorem dksL_law_29 : cL_law.data.toList.drop 760 = dktL_law_29 := dk_seg dksL_law_28 22 rfl rfl
theorem dL_law_0 : decode cL_law 0 = .ok (.new 7, 3) := dk_187 0 7 (dk_at dksL_law_0 0 rfl rfl)
theorem dL_law_3 : decode cL_law 3 = .ok (.dup, 1) := dk_89 (dk_at dksL_law_0 3 rfl rfl)
theorem dL_law_4 : decode cL_law 4 = .ok (.invokespecial 9, 3) := dk_183 0 9 (dk_at dksL_law_0 4 rfl rfl)
theorem dL_law_7 : decode cL_law 7 = .ok (.astore_n 1, 1) := dk_76 (dk_at dksL_law_0 7 rfl rfl)
theorem dL_law_8 : decode cL_law 8 = .ok (.new 10, 3) := dk_187 0 10 (dk_at dksL_law_0 8 rfl rfl)
theorem dL_law_11 : decode cL_law 11 = .ok (.dup, 1) := dk_89 (dk_at dksL_law_0 11 rfl rfl)
theorem dL_law_12 : decode cL_law 12 = .ok (.invokespecial 12, 3) := dk_183 0 12 (dk_at dksL_law_0 12 rfl rfl)
theorem dL_law_15 : decode cL_law 15 = .ok (.astore_n 2, 1) := dk_77 (dk_at dksL_law_0 15 rfl rfl)
theorem dL_law_16 : decode cL_law 16 = .ok (.iconst 0, 1) := dk_3 (dk_at dksL_law_0 16 rfl rfl)
theorem dL_law_17 : decode cL_law 17 = .ok (.istore_n 3, 1) := dk_62 (dk_at dksL_law_0 17 rfl rfl)
theorem dL_law_18 : decode cL_law 18 = .ok (.iload_n 3, 1) := dk_29 (dk_at dksL_law_0 18 rfl rfl)
theorem dL_law_19 : decode cL_law 19 = .ok (.aload_n 0, 1) := dk_42 (dk_at dksL_law_0 19 rfl rfl)
theorem dL_law_20 : decode cL_law 20 = .ok (.arraylength, 1) := dk_190 (dk_at dksL_law_0 20 rfl rfl)
theorem dL_law_21 : decode cL_law 21 = .ok (.iconst 4, 1) := dk_7 (dk_at dksL_law_0 21 rfl rfl)
theorem dL_law_22 : decode cL_law 22 = .ok (.isub, 1) := dk_100 (dk_at dksL_law_0 22 rfl rfl)
theorem dL_law_23 : decode cL_law 23 = .ok (.if_icmp .gt 743, 3) := dk_163 2 231 (dk_at dksL_law_1 0 rfl rfl)
theorem dL_law_26 : decode cL_law 26 = .ok (.aload_n 0, 1) := dk_42 (dk_at dksL_law_1 3 rfl rfl)
theorem dL_law_27 : decode cL_law 27 = .ok (.iload_n 3, 1) := dk_29 (dk_at dksL_law_1 4 rfl rfl)
theorem dL_law_28 : decode cL_law 28 = .ok (.iaload, 1) := dk_46 (dk_at dksL_law_1 5 rfl rfl)
theorem dL_law_29 : decode cL_law 29 = .ok (.bipush 31, 2) := dk_16 31 (dk_at dksL_law_1 6 rfl rfl)
theorem dL_law_31 : decode cL_law 31 = .ok (.iand, 1) := dk_126 (dk_at dksL_law_1 8 rfl rfl)
theorem dL_law_32 : decode cL_law 32 = .ok (.tableswitch 728 0 24 #[116, 139, 152, 165, 178, 211, 244, 267, 290, 333, 356, 379, 392, 415, 438, 461, 504, 517, 576, 589, 622, 665, 678, 691, 714], 116) := by decide +kernel
theorem dL_law_148 : decode cL_law 148 = .ok (.aload_n 1, 1) := dk_43 (dk_at dksL_law_3 0 rfl rfl)
theorem dL_law_149 : decode cL_law 149 = .ok (.aload_n 0, 1) := dk_42 (dk_at dksL_law_3 1 rfl rfl)
theorem dL_law_150 : decode cL_law 150 = .ok (.iload_n 3, 1) := dk_29 (dk_at dksL_law_3 2 rfl rfl)
theorem dL_law_151 : decode cL_law 151 = .ok (.iconst 1, 1) := dk_4 (dk_at dksL_law_3 3 rfl rfl)
theorem dL_law_152 : decode cL_law 152 = .ok (.iadd, 1) := dk_96 (dk_at dksL_law_3 4 rfl rfl)
theorem dL_law_153 : decode cL_law 153 = .ok (.iaload, 1) := dk_46 (dk_at dksL_law_3 5 rfl rfl)
theorem dL_law_154 : decode cL_law 154 = .ok (.invokevirtual 13, 3) := dk_182 0 13 (dk_at dksL_law_3 6 rfl rfl)
theorem dL_law_157 : decode cL_law 157 = .ok (.aload_n 2, 1) := dk_44 (dk_at dksL_law_3 9 rfl rfl)
theorem dL_law_158 : decode cL_law 158 = .ok (.aload_n 0, 1) := dk_42 (dk_at dksL_law_3 10 rfl rfl)
theorem dL_law_159 : decode cL_law 159 = .ok (.iload_n 3, 1) := dk_29 (dk_at dksL_law_3 11 rfl rfl)
theorem dL_law_160 : decode cL_law 160 = .ok (.iconst 1, 1) := dk_4 (dk_at dksL_law_3 12 rfl rfl)
theorem dL_law_161 : decode cL_law 161 = .ok (.iadd, 1) := dk_96 (dk_at dksL_law_3 13 rfl rfl)
theorem dL_law_162 : decode cL_law 162 = .ok (.iaload, 1) := dk_46 (dk_at dksL_law_3 14 rfl rfl)
theorem dL_law_163 : decode cL_law 163 = .ok (.invokevirtual 17, 3) := dk_182 0 17 (dk_at dksL_law_3 15 rfl rfl)
theorem dL_law_166 : decode cL_law 166 = .ok (.if_icmp .eq 594, 3) := dk_159 2 82 (dk_at dksL_law_3 18 rfl rfl)
theorem dL_law_169 : decode cL_law 169 = .ok (.iconst 0, 1) := dk_3 (dk_at dksL_law_3 21 rfl rfl)
theorem dL_law_170 : decode cL_law 170 = .ok (.ireturn, 1) := dk_172 (dk_at dksL_law_3 22 rfl rfl)
theorem dL_law_171 : decode cL_law 171 = .ok (.aload_n 1, 1) := dk_43 (dk_at dksL_law_3 23 rfl rfl)
theorem dL_law_172 : decode cL_law 172 = .ok (.invokevirtual 18, 3) := dk_182 0 18 (dk_at dksL_law_4 0 rfl rfl)
theorem dL_law_175 : decode cL_law 175 = .ok (.aload_n 2, 1) := dk_44 (dk_at dksL_law_4 3 rfl rfl)
theorem dL_law_176 : decode cL_law 176 = .ok (.invokevirtual 22, 3) := dk_182 0 22 (dk_at dksL_law_4 4 rfl rfl)
theorem dL_law_179 : decode cL_law 179 = .ok (.if_icmp .eq 581, 3) := dk_159 2 69 (dk_at dksL_law_4 7 rfl rfl)
theorem dL_law_182 : decode cL_law 182 = .ok (.iconst 0, 1) := dk_3 (dk_at dksL_law_4 10 rfl rfl)
theorem dL_law_183 : decode cL_law 183 = .ok (.ireturn, 1) := dk_172 (dk_at dksL_law_4 11 rfl rfl)
theorem dL_law_184 : decode cL_law 184 = .ok (.aload_n 1, 1) := dk_43 (dk_at dksL_law_4 12 rfl rfl)
theorem dL_law_185 : decode cL_law 185 = .ok (.invokevirtual 23, 3) := dk_182 0 23 (dk_at dksL_law_4 13 rfl rfl)
theorem dL_law_188 : decode cL_law 188 = .ok (.aload_n 2, 1) := dk_44 (dk_at dksL_law_4 16 rfl rfl)
theorem dL_law_189 : decode cL_law 189 = .ok (.invokevirtual 26, 3) := dk_182 0 26 (dk_at dksL_law_4 17 rfl rfl)
theorem dL_law_192 : decode cL_law 192 = .ok (.if_icmp .eq 568, 3) := dk_159 2 56 (dk_at dksL_law_4 20 rfl rfl)
theorem dL_law_195 : decode cL_law 195 = .ok (.iconst 0, 1) := dk_3 (dk_at dksL_law_4 23 rfl rfl)
theorem dL_law_196 : decode cL_law 196 = .ok (.ireturn, 1) := dk_172 (dk_at dksL_law_5 0 rfl rfl)
theorem dL_law_197 : decode cL_law 197 = .ok (.aload_n 1, 1) := dk_43 (dk_at dksL_law_5 1 rfl rfl)
theorem dL_law_198 : decode cL_law 198 = .ok (.invokevirtual 27, 3) := dk_182 0 27 (dk_at dksL_law_5 2 rfl rfl)
theorem dL_law_201 : decode cL_law 201 = .ok (.aload_n 2, 1) := dk_44 (dk_at dksL_law_5 5 rfl rfl)
theorem dL_law_202 : decode cL_law 202 = .ok (.invokevirtual 30, 3) := dk_182 0 30 (dk_at dksL_law_5 6 rfl rfl)
theorem dL_law_205 : decode cL_law 205 = .ok (.if_icmp .eq 555, 3) := dk_159 2 43 (dk_at dksL_law_5 9 rfl rfl)
theorem dL_law_208 : decode cL_law 208 = .ok (.iconst 0, 1) := dk_3 (dk_at dksL_law_5 12 rfl rfl)
theorem dL_law_209 : decode cL_law 209 = .ok (.ireturn, 1) := dk_172 (dk_at dksL_law_5 13 rfl rfl)
theorem dL_law_210 : decode cL_law 210 = .ok (.aload_n 1, 1) := dk_43 (dk_at dksL_law_5 14 rfl rfl)
theorem dL_law_211 : decode cL_law 211 = .ok (.aload_n 0, 1) := dk_42 (dk_at dksL_law_5 15 rfl rfl)
theorem dL_law_212 : decode cL_law 212 = .ok (.iload_n 3, 1) := dk_29 (dk_at dksL_law_5 16 rfl rfl)
theorem dL_law_213 : decode cL_law 213 = .ok (.iconst 1, 1) := dk_4 (dk_at dksL_law_5 17 rfl rfl)
theorem dL_law_214 : decode cL_law 214 = .ok (.iadd, 1) := dk_96 (dk_at dksL_law_5 18 rfl rfl)
theorem dL_law_215 : decode cL_law 215 = .ok (.iaload, 1) := dk_46 (dk_at dksL_law_5 19 rfl rfl)
theorem dL_law_216 : decode cL_law 216 = .ok (.aload_n 0, 1) := dk_42 (dk_at dksL_law_5 20 rfl rfl)
theorem dL_law_217 : decode cL_law 217 = .ok (.iload_n 3, 1) := dk_29 (dk_at dksL_law_5 21 rfl rfl)
theorem dL_law_218 : decode cL_law 218 = .ok (.iconst 2, 1) := dk_5 (dk_at dksL_law_5 22 rfl rfl)
theorem dL_law_219 : decode cL_law 219 = .ok (.iadd, 1) := dk_96 (dk_at dksL_law_5 23 rfl rfl)
theorem dL_law_220 : decode cL_law 220 = .ok (.iaload, 1) := dk_46 (dk_at dksL_law_6 0 rfl rfl)
theorem dL_law_221 : decode cL_law 221 = .ok (.invokevirtual 31, 3) := dk_182 0 31 (dk_at dksL_law_6 1 rfl rfl)
theorem dL_law_224 : decode cL_law 224 = .ok (.aload_n 2, 1) := dk_44 (dk_at dksL_law_6 4 rfl rfl)
theorem dL_law_225 : decode cL_law 225 = .ok (.aload_n 0, 1) := dk_42 (dk_at dksL_law_6 5 rfl rfl)
theorem dL_law_226 : decode cL_law 226 = .ok (.iload_n 3, 1) := dk_29 (dk_at dksL_law_6 6 rfl rfl)
theorem dL_law_227 : decode cL_law 227 = .ok (.iconst 1, 1) := dk_4 (dk_at dksL_law_6 7 rfl rfl)
theorem dL_law_228 : decode cL_law 228 = .ok (.iadd, 1) := dk_96 (dk_at dksL_law_6 8 rfl rfl)
theorem dL_law_229 : decode cL_law 229 = .ok (.iaload, 1) := dk_46 (dk_at dksL_law_6 9 rfl rfl)
theorem dL_law_230 : decode cL_law 230 = .ok (.aload_n 0, 1) := dk_42 (dk_at dksL_law_6 10 rfl rfl)
theorem dL_law_231 : decode cL_law 231 = .ok (.iload_n 3, 1) := dk_29 (dk_at dksL_law_6 11 rfl rfl)
theorem dL_law_232 : decode cL_law 232 = .ok (.iconst 2, 1) := dk_5 (dk_at dksL_law_6 12 rfl rfl)
theorem dL_law_233 : decode cL_law 233 = .ok (.iadd, 1) := dk_96 (dk_at dksL_law_6 13 rfl rfl)
theorem dL_law_234 : decode cL_law 234 = .ok (.iaload, 1) := dk_46 (dk_at dksL_law_6 14 rfl rfl)
theorem dL_law_235 : decode cL_law 235 = .ok (.invokevirtual 35, 3) := dk_182 0 35 (dk_at dksL_law_6 15 rfl rfl)
theorem dL_law_238 : decode cL_law 238 = .ok (.if_icmp .eq 522, 3) := dk_159 2 10 (dk_at dksL_law_6 18 rfl rfl)
theorem dL_law_241 : decode cL_law 241 = .ok (.iconst 0, 1) := dk_3 (dk_at dksL_law_6 21 rfl rfl)
theorem dL_law_242 : decode cL_law 242 = .ok (.ireturn, 1) := dk_172 (dk_at dksL_law_6 22 rfl rfl)
theorem dL_law_243 : decode cL_law 243 = .ok (.aload_n 1, 1) := dk_43 (dk_at dksL_law_6 23 rfl rfl)
theorem dL_law_244 : decode cL_law 244 = .ok (.aload_n 0, 1) := dk_42 (dk_at dksL_law_7 0 rfl rfl)
theorem dL_law_245 : decode cL_law 245 = .ok (.iload_n 3, 1) := dk_29 (dk_at dksL_law_7 1 rfl rfl)
theorem dL_law_246 : decode cL_law 246 = .ok (.iconst 1, 1) := dk_4 (dk_at dksL_law_7 2 rfl rfl)
theorem dL_law_247 : decode cL_law 247 = .ok (.iadd, 1) := dk_96 (dk_at dksL_law_7 3 rfl rfl)
theorem dL_law_248 : decode cL_law 248 = .ok (.iaload, 1) := dk_46 (dk_at dksL_law_7 4 rfl rfl)
theorem dL_law_249 : decode cL_law 249 = .ok (.aload_n 0, 1) := dk_42 (dk_at dksL_law_7 5 rfl rfl)
theorem dL_law_250 : decode cL_law 250 = .ok (.iload_n 3, 1) := dk_29 (dk_at dksL_law_7 6 rfl rfl)
theorem dL_law_251 : decode cL_law 251 = .ok (.iconst 2, 1) := dk_5 (dk_at dksL_law_7 7 rfl rfl)
theorem dL_law_252 : decode cL_law 252 = .ok (.iadd, 1) := dk_96 (dk_at dksL_law_7 8 rfl rfl)
theorem dL_law_253 : decode cL_law 253 = .ok (.iaload, 1) := dk_46 (dk_at dksL_law_7 9 rfl rfl)
theorem dL_law_254 : decode cL_law 254 = .ok (.invokevirtual 36, 3) := dk_182 0 36 (dk_at dksL_law_7 10 rfl rfl)
theorem dL_law_257 : decode cL_law 257 = .ok (.aload_n 2, 1) := dk_44 (dk_at dksL_law_7 13 rfl rfl)
theorem dL_law_258 : decode cL_law 258 = .ok (.aload_n 0, 1) := dk_42 (dk_at dksL_law_7 14 rfl rfl)
theorem dL_law_259 : decode cL_law 259 = .ok (.iload_n 3, 1) := dk_29 (dk_at dksL_law_7 15 rfl rfl)
theorem dL_law_260 : decode cL_law 260 = .ok (.iconst 1, 1) := dk_4 (dk_at dksL_law_7 16 rfl rfl)
theorem dL_law_261 : decode cL_law 261 = .ok (.iadd, 1) := dk_96 (dk_at dksL_law_7 17 rfl rfl)
theorem dL_law_262 : decode cL_law 262 = .ok (.iaload, 1) := dk_46 (dk_at dksL_law_7 18 rfl rfl)
theorem dL_law_263 : decode cL_law 263 = .ok (.aload_n 0, 1) := dk_42 (dk_at dksL_law_7 19 rfl rfl)
theorem dL_law_264 : decode cL_law 264 = .ok (.iload_n 3, 1) := dk_29 (dk_at dksL_law_7 20 rfl rfl)
theorem dL_law_265 : decode cL_law 265 = .ok (.iconst 2, 1) := dk_5 (dk_at dksL_law_7 21 rfl rfl)
theorem dL_law_266 : decode cL_law 266 = .ok (.iadd, 1) := dk_96 (dk_at dksL_law_7 22 rfl rfl)
theorem dL_law_267 : decode cL_law 267 = .ok (.iaload, 1) := dk_46 (dk_at dksL_law_7 23 rfl rfl)
theorem dL_law_268 : decode cL_law 268 = .ok (.invokevirtual 39, 3) := dk_182 0 39 (dk_at dksL_law_8 0 rfl rfl)
theorem dL_law_271 : decode cL_law 271 = .ok (.if_icmp .eq 489, 3) := dk_159 1 233 (dk_at dksL_law_8 3 rfl rfl)
theorem dL_law_274 : decode cL_law 274 = .ok (.iconst 0, 1) := dk_3 (dk_at dksL_law_8 6 rfl rfl)
theorem dL_law_275 : decode cL_law 275 = .ok (.ireturn, 1) := dk_172 (dk_at dksL_law_8 7 rfl rfl)
theorem dL_law_276 : decode cL_law 276 = .ok (.aload_n 1, 1) := dk_43 (dk_at dksL_law_8 8 rfl rfl)
theorem dL_law_277 : decode cL_law 277 = .ok (.aload_n 0, 1) := dk_42 (dk_at dksL_law_8 9 rfl rfl)
theorem dL_law_278 : decode cL_law 278 = .ok (.iload_n 3, 1) := dk_29 (dk_at dksL_law_8 10 rfl rfl)
theorem dL_law_279 : decode cL_law 279 = .ok (.iconst 1, 1) := dk_4 (dk_at dksL_law_8 11 rfl rfl)
theorem dL_law_280 : decode cL_law 280 = .ok (.iadd, 1) := dk_96 (dk_at dksL_law_8 12 rfl rfl)
theorem dL_law_281 : decode cL_law 281 = .ok (.iaload, 1) := dk_46 (dk_at dksL_law_8 13 rfl rfl)
theorem dL_law_282 : decode cL_law 282 = .ok (.invokevirtual 40, 3) := dk_182 0 40 (dk_at dksL_law_8 14 rfl rfl)
theorem dL_law_285 : decode cL_law 285 = .ok (.aload_n 2, 1) := dk_44 (dk_at dksL_law_8 17 rfl rfl)
theorem dL_law_286 : decode cL_law 286 = .ok (.aload_n 0, 1) := dk_42 (dk_at dksL_law_8 18 rfl rfl)
theorem dL_law_287 : decode cL_law 287 = .ok (.iload_n 3, 1) := dk_29 (dk_at dksL_law_8 19 rfl rfl)
theorem dL_law_288 : decode cL_law 288 = .ok (.iconst 1, 1) := dk_4 (dk_at dksL_law_8 20 rfl rfl)
theorem dL_law_289 : decode cL_law 289 = .ok (.iadd, 1) := dk_96 (dk_at dksL_law_8 21 rfl rfl)
theorem dL_law_290 : decode cL_law 290 = .ok (.iaload, 1) := dk_46 (dk_at dksL_law_8 22 rfl rfl)
theorem dL_law_291 : decode cL_law 291 = .ok (.invokevirtual 43, 3) := dk_182 0 43 (dk_at dksL_law_9 0 rfl rfl)
theorem dL_law_294 : decode cL_law 294 = .ok (.if_icmp .eq 466, 3) := dk_159 1 210 (dk_at dksL_law_9 3 rfl rfl)
theorem dL_law_297 : decode cL_law 297 = .ok (.iconst 0, 1) := dk_3 (dk_at dksL_law_9 6 rfl rfl)
theorem dL_law_298 : decode cL_law 298 = .ok (.ireturn, 1) := dk_172 (dk_at dksL_law_9 7 rfl rfl)
theorem dL_law_299 : decode cL_law 299 = .ok (.aload_n 1, 1) := dk_43 (dk_at dksL_law_9 8 rfl rfl)
theorem dL_law_300 : decode cL_law 300 = .ok (.aload_n 0, 1) := dk_42 (dk_at dksL_law_9 9 rfl rfl)
theorem dL_law_301 : decode cL_law 301 = .ok (.iload_n 3, 1) := dk_29 (dk_at dksL_law_9 10 rfl rfl)
theorem dL_law_302 : decode cL_law 302 = .ok (.iconst 1, 1) := dk_4 (dk_at dksL_law_9 11 rfl rfl)
theorem dL_law_303 : decode cL_law 303 = .ok (.iadd, 1) := dk_96 (dk_at dksL_law_9 12 rfl rfl)
theorem dL_law_304 : decode cL_law 304 = .ok (.iaload, 1) := dk_46 (dk_at dksL_law_9 13 rfl rfl)
theorem dL_law_305 : decode cL_law 305 = .ok (.invokevirtual 44, 3) := dk_182 0 44 (dk_at dksL_law_9 14 rfl rfl)
theorem dL_law_308 : decode cL_law 308 = .ok (.aload_n 2, 1) := dk_44 (dk_at dksL_law_9 17 rfl rfl)
theorem dL_law_309 : decode cL_law 309 = .ok (.aload_n 0, 1) := dk_42 (dk_at dksL_law_9 18 rfl rfl)
theorem dL_law_310 : decode cL_law 310 = .ok (.iload_n 3, 1) := dk_29 (dk_at dksL_law_9 19 rfl rfl)
theorem dL_law_311 : decode cL_law 311 = .ok (.iconst 1, 1) := dk_4 (dk_at dksL_law_9 20 rfl rfl)
theorem dL_law_312 : decode cL_law 312 = .ok (.iadd, 1) := dk_96 (dk_at dksL_law_9 21 rfl rfl)
theorem dL_law_313 : decode cL_law 313 = .ok (.iaload, 1) := dk_46 (dk_at dksL_law_9 22 rfl rfl)
theorem dL_law_314 : decode cL_law 314 = .ok (.invokevirtual 47, 3) := dk_182 0 47 (dk_at dksL_law_10 0 rfl rfl)
theorem dL_law_317 : decode cL_law 317 = .ok (.if_icmp .eq 443, 3) := dk_159 1 187 (dk_at dksL_law_10 3 rfl rfl)
theorem dL_law_320 : decode cL_law 320 = .ok (.iconst 0, 1) := dk_3 (dk_at dksL_law_10 6 rfl rfl)
theorem dL_law_321 : decode cL_law 321 = .ok (.ireturn, 1) := dk_172 (dk_at dksL_law_10 7 rfl rfl)
theorem dL_law_322 : decode cL_law 322 = .ok (.aload_n 1, 1) := dk_43 (dk_at dksL_law_10 8 rfl rfl)
theorem dL_law_323 : decode cL_law 323 = .ok (.aload_n 0, 1) := dk_42 (dk_at dksL_law_10 9 rfl rfl)
theorem dL_law_324 : decode cL_law 324 = .ok (.iload_n 3, 1) := dk_29 (dk_at dksL_law_10 10 rfl rfl)
theorem dL_law_325 : decode cL_law 325 = .ok (.iconst 1, 1) := dk_4 (dk_at dksL_law_10 11 rfl rfl)
theorem dL_law_326 : decode cL_law 326 = .ok (.iadd, 1) := dk_96 (dk_at dksL_law_10 12 rfl rfl)
theorem dL_law_327 : decode cL_law 327 = .ok (.iaload, 1) := dk_46 (dk_at dksL_law_10 13 rfl rfl)
theorem dL_law_328 : decode cL_law 328 = .ok (.aload_n 0, 1) := dk_42 (dk_at dksL_law_10 14 rfl rfl)
theorem dL_law_329 : decode cL_law 329 = .ok (.iload_n 3, 1) := dk_29 (dk_at dksL_law_10 15 rfl rfl)
theorem dL_law_330 : decode cL_law 330 = .ok (.iconst 2, 1) := dk_5 (dk_at dksL_law_10 16 rfl rfl)
theorem dL_law_331 : decode cL_law 331 = .ok (.iadd, 1) := dk_96 (dk_at dksL_law_10 17 rfl rfl)
theorem dL_law_332 : decode cL_law 332 = .ok (.iaload, 1) := dk_46 (dk_at dksL_law_10 18 rfl rfl)
theorem dL_law_333 : decode cL_law 333 = .ok (.aload_n 0, 1) := dk_42 (dk_at dksL_law_10 19 rfl rfl)
theorem dL_law_334 : decode cL_law 334 = .ok (.iload_n 3, 1) := dk_29 (dk_at dksL_law_10 20 rfl rfl)
theorem dL_law_335 : decode cL_law 335 = .ok (.iconst 3, 1) := dk_6 (dk_at dksL_law_10 21 rfl rfl)
theorem dL_law_336 : decode cL_law 336 = .ok (.iadd, 1) := dk_96 (dk_at dksL_law_10 22 rfl rfl)
theorem dL_law_337 : decode cL_law 337 = .ok (.iaload, 1) := dk_46 (dk_at dksL_law_10 23 rfl rfl)
theorem dL_law_338 : decode cL_law 338 = .ok (.invokevirtual 48, 3) := dk_182 0 48 (dk_at dksL_law_11 0 rfl rfl)
theorem dL_law_341 : decode cL_law 341 = .ok (.aload_n 2, 1) := dk_44 (dk_at dksL_law_11 3 rfl rfl)
theorem dL_law_342 : decode cL_law 342 = .ok (.aload_n 0, 1) := dk_42 (dk_at dksL_law_11 4 rfl rfl)
theorem dL_law_343 : decode cL_law 343 = .ok (.iload_n 3, 1) := dk_29 (dk_at dksL_law_11 5 rfl rfl)
theorem dL_law_344 : decode cL_law 344 = .ok (.iconst 1, 1) := dk_4 (dk_at dksL_law_11 6 rfl rfl)
theorem dL_law_345 : decode cL_law 345 = .ok (.iadd, 1) := dk_96 (dk_at dksL_law_11 7 rfl rfl)
theorem dL_law_346 : decode cL_law 346 = .ok (.iaload, 1) := dk_46 (dk_at dksL_law_11 8 rfl rfl)
theorem dL_law_347 : decode cL_law 347 = .ok (.aload_n 0, 1) := dk_42 (dk_at dksL_law_11 9 rfl rfl)
theorem dL_law_348 : decode cL_law 348 = .ok (.iload_n 3, 1) := dk_29 (dk_at dksL_law_11 10 rfl rfl)
theorem dL_law_349 : decode cL_law 349 = .ok (.iconst 2, 1) := dk_5 (dk_at dksL_law_11 11 rfl rfl)
theorem dL_law_350 : decode cL_law 350 = .ok (.iadd, 1) := dk_96 (dk_at dksL_law_11 12 rfl rfl)
theorem dL_law_351 : decode cL_law 351 = .ok (.iaload, 1) := dk_46 (dk_at dksL_law_11 13 rfl rfl)
theorem dL_law_352 : decode cL_law 352 = .ok (.aload_n 0, 1) := dk_42 (dk_at dksL_law_11 14 rfl rfl)
theorem dL_law_353 : decode cL_law 353 = .ok (.iload_n 3, 1) := dk_29 (dk_at dksL_law_11 15 rfl rfl)
theorem dL_law_354 : decode cL_law 354 = .ok (.iconst 3, 1) := dk_6 (dk_at dksL_law_11 16 rfl rfl)
theorem dL_law_355 : decode cL_law 355 = .ok (.iadd, 1) := dk_96 (dk_at dksL_law_11 17 rfl rfl)
theorem dL_law_356 : decode cL_law 356 = .ok (.iaload, 1) := dk_46 (dk_at dksL_law_11 18 rfl rfl)
theorem dL_law_357 : decode cL_law 357 = .ok (.invokevirtual 52, 3) := dk_182 0 52 (dk_at dksL_law_11 19 rfl rfl)
theorem dL_law_360 : decode cL_law 360 = .ok (.if_icmp .eq 400, 3) := dk_159 1 144 (dk_at dksL_law_12 0 rfl rfl)
theorem dL_law_363 : decode cL_law 363 = .ok (.iconst 0, 1) := dk_3 (dk_at dksL_law_12 3 rfl rfl)
theorem dL_law_364 : decode cL_law 364 = .ok (.ireturn, 1) := dk_172 (dk_at dksL_law_12 4 rfl rfl)
theorem dL_law_365 : decode cL_law 365 = .ok (.aload_n 1, 1) := dk_43 (dk_at dksL_law_12 5 rfl rfl)
theorem dL_law_366 : decode cL_law 366 = .ok (.aload_n 0, 1) := dk_42 (dk_at dksL_law_12 6 rfl rfl)
theorem dL_law_367 : decode cL_law 367 = .ok (.iload_n 3, 1) := dk_29 (dk_at dksL_law_12 7 rfl rfl)
theorem dL_law_368 : decode cL_law 368 = .ok (.iconst 1, 1) := dk_4 (dk_at dksL_law_12 8 rfl rfl)
theorem dL_law_369 : decode cL_law 369 = .ok (.iadd, 1) := dk_96 (dk_at dksL_law_12 9 rfl rfl)
theorem dL_law_370 : decode cL_law 370 = .ok (.iaload, 1) := dk_46 (dk_at dksL_law_12 10 rfl rfl)
theorem dL_law_371 : decode cL_law 371 = .ok (.invokevirtual 53, 3) := dk_182 0 53 (dk_at dksL_law_12 11 rfl rfl)
theorem dL_law_374 : decode cL_law 374 = .ok (.aload_n 2, 1) := dk_44 (dk_at dksL_law_12 14 rfl rfl)
theorem dL_law_375 : decode cL_law 375 = .ok (.aload_n 0, 1) := dk_42 (dk_at dksL_law_12 15 rfl rfl)
theorem dL_law_376 : decode cL_law 376 = .ok (.iload_n 3, 1) := dk_29 (dk_at dksL_law_12 16 rfl rfl)
theorem dL_law_377 : decode cL_law 377 = .ok (.iconst 1, 1) := dk_4 (dk_at dksL_law_12 17 rfl rfl)
theorem dL_law_378 : decode cL_law 378 = .ok (.iadd, 1) := dk_96 (dk_at dksL_law_12 18 rfl rfl)
theorem dL_law_379 : decode cL_law 379 = .ok (.iaload, 1) := dk_46 (dk_at dksL_law_12 19 rfl rfl)
theorem dL_law_380 : decode cL_law 380 = .ok (.invokevirtual 56, 3) := dk_182 0 56 (dk_at dksL_law_12 20 rfl rfl)
theorem dL_law_383 : decode cL_law 383 = .ok (.if_icmp .eq 377, 3) := dk_159 1 121 (dk_at dksL_law_13 0 rfl rfl)
theorem dL_law_386 : decode cL_law 386 = .ok (.iconst 0, 1) := dk_3 (dk_at dksL_law_13 3 rfl rfl)
theorem dL_law_387 : decode cL_law 387 = .ok (.ireturn, 1) := dk_172 (dk_at dksL_law_13 4 rfl rfl)
theorem dL_law_388 : decode cL_law 388 = .ok (.aload_n 1, 1) := dk_43 (dk_at dksL_law_13 5 rfl rfl)
theorem dL_law_389 : decode cL_law 389 = .ok (.aload_n 0, 1) := dk_42 (dk_at dksL_law_13 6 rfl rfl)
theorem dL_law_390 : decode cL_law 390 = .ok (.iload_n 3, 1) := dk_29 (dk_at dksL_law_13 7 rfl rfl)
theorem dL_law_391 : decode cL_law 391 = .ok (.iconst 1, 1) := dk_4 (dk_at dksL_law_13 8 rfl rfl)
theorem dL_law_392 : decode cL_law 392 = .ok (.iadd, 1) := dk_96 (dk_at dksL_law_13 9 rfl rfl)
theorem dL_law_393 : decode cL_law 393 = .ok (.iaload, 1) := dk_46 (dk_at dksL_law_13 10 rfl rfl)
theorem dL_law_394 : decode cL_law 394 = .ok (.invokevirtual 57, 3) := dk_182 0 57 (dk_at dksL_law_13 11 rfl rfl)
theorem dL_law_397 : decode cL_law 397 = .ok (.aload_n 2, 1) := dk_44 (dk_at dksL_law_13 14 rfl rfl)
theorem dL_law_398 : decode cL_law 398 = .ok (.aload_n 0, 1) := dk_42 (dk_at dksL_law_13 15 rfl rfl)
theorem dL_law_399 : decode cL_law 399 = .ok (.iload_n 3, 1) := dk_29 (dk_at dksL_law_13 16 rfl rfl)
theorem dL_law_400 : decode cL_law 400 = .ok (.iconst 1, 1) := dk_4 (dk_at dksL_law_13 17 rfl rfl)
theorem dL_law_401 : decode cL_law 401 = .ok (.iadd, 1) := dk_96 (dk_at dksL_law_13 18 rfl rfl)
theorem dL_law_402 : decode cL_law 402 = .ok (.iaload, 1) := dk_46 (dk_at dksL_law_13 19 rfl rfl)
theorem dL_law_403 : decode cL_law 403 = .ok (.invokevirtual 60, 3) := dk_182 0 60 (dk_at dksL_law_13 20 rfl rfl)
theorem dL_law_406 : decode cL_law 406 = .ok (.if_icmp .eq 354, 3) := dk_159 1 98 (dk_at dksL_law_14 0 rfl rfl)
theorem dL_law_409 : decode cL_law 409 = .ok (.iconst 0, 1) := dk_3 (dk_at dksL_law_14 3 rfl rfl)
theorem dL_law_410 : decode cL_law 410 = .ok (.ireturn, 1) := dk_172 (dk_at dksL_law_14 4 rfl rfl)
theorem dL_law_411 : decode cL_law 411 = .ok (.aload_n 1, 1) := dk_43 (dk_at dksL_law_14 5 rfl rfl)
theorem dL_law_412 : decode cL_law 412 = .ok (.invokevirtual 61, 3) := dk_182 0 61 (dk_at dksL_law_14 6 rfl rfl)
theorem dL_law_415 : decode cL_law 415 = .ok (.aload_n 2, 1) := dk_44 (dk_at dksL_law_14 9 rfl rfl)
theorem dL_law_416 : decode cL_law 416 = .ok (.invokevirtual 64, 3) := dk_182 0 64 (dk_at dksL_law_14 10 rfl rfl)
theorem dL_law_419 : decode cL_law 419 = .ok (.if_icmp .eq 341, 3) := dk_159 1 85 (dk_at dksL_law_14 13 rfl rfl)
theorem dL_law_422 : decode cL_law 422 = .ok (.iconst 0, 1) := dk_3 (dk_at dksL_law_14 16 rfl rfl)
theorem dL_law_423 : decode cL_law 423 = .ok (.ireturn, 1) := dk_172 (dk_at dksL_law_14 17 rfl rfl)
theorem dL_law_424 : decode cL_law 424 = .ok (.aload_n 1, 1) := dk_43 (dk_at dksL_law_14 18 rfl rfl)
theorem dL_law_425 : decode cL_law 425 = .ok (.aload_n 0, 1) := dk_42 (dk_at dksL_law_14 19 rfl rfl)
theorem dL_law_426 : decode cL_law 426 = .ok (.iload_n 3, 1) := dk_29 (dk_at dksL_law_14 20 rfl rfl)
theorem dL_law_427 : decode cL_law 427 = .ok (.iconst 1, 1) := dk_4 (dk_at dksL_law_14 21 rfl rfl)
theorem dL_law_428 : decode cL_law 428 = .ok (.iadd, 1) := dk_96 (dk_at dksL_law_14 22 rfl rfl)
theorem dL_law_429 : decode cL_law 429 = .ok (.iaload, 1) := dk_46 (dk_at dksL_law_14 23 rfl rfl)
theorem dL_law_430 : decode cL_law 430 = .ok (.invokevirtual 65, 3) := dk_182 0 65 (dk_at dksL_law_15 0 rfl rfl)
theorem dL_law_433 : decode cL_law 433 = .ok (.aload_n 2, 1) := dk_44 (dk_at dksL_law_15 3 rfl rfl)
theorem dL_law_434 : decode cL_law 434 = .ok (.aload_n 0, 1) := dk_42 (dk_at dksL_law_15 4 rfl rfl)
theorem dL_law_435 : decode cL_law 435 = .ok (.iload_n 3, 1) := dk_29 (dk_at dksL_law_15 5 rfl rfl)
theorem dL_law_436 : decode cL_law 436 = .ok (.iconst 1, 1) := dk_4 (dk_at dksL_law_15 6 rfl rfl)
theorem dL_law_437 : decode cL_law 437 = .ok (.iadd, 1) := dk_96 (dk_at dksL_law_15 7 rfl rfl)
theorem dL_law_438 : decode cL_law 438 = .ok (.iaload, 1) := dk_46 (dk_at dksL_law_15 8 rfl rfl)
theorem dL_law_439 : decode cL_law 439 = .ok (.invokevirtual 68, 3) := dk_182 0 68 (dk_at dksL_law_15 9 rfl rfl)
theorem dL_law_442 : decode cL_law 442 = .ok (.if_icmp .eq 318, 3) := dk_159 1 62 (dk_at dksL_law_15 12 rfl rfl)
theorem dL_law_445 : decode cL_law 445 = .ok (.iconst 0, 1) := dk_3 (dk_at dksL_law_15 15 rfl rfl)
theorem dL_law_446 : decode cL_law 446 = .ok (.ireturn, 1) := dk_172 (dk_at dksL_law_15 16 rfl rfl)
theorem dL_law_447 : decode cL_law 447 = .ok (.aload_n 1, 1) := dk_43 (dk_at dksL_law_15 17 rfl rfl)
theorem dL_law_448 : decode cL_law 448 = .ok (.aload_n 0, 1) := dk_42 (dk_at dksL_law_15 18 rfl rfl)
theorem dL_law_449 : decode cL_law 449 = .ok (.iload_n 3, 1) := dk_29 (dk_at dksL_law_15 19 rfl rfl)
theorem dL_law_450 : decode cL_law 450 = .ok (.iconst 1, 1) := dk_4 (dk_at dksL_law_15 20 rfl rfl)
theorem dL_law_451 : decode cL_law 451 = .ok (.iadd, 1) := dk_96 (dk_at dksL_law_15 21 rfl rfl)
theorem dL_law_452 : decode cL_law 452 = .ok (.iaload, 1) := dk_46 (dk_at dksL_law_15 22 rfl rfl)
theorem dL_law_453 : decode cL_law 453 = .ok (.invokevirtual 69, 3) := dk_182 0 69 (dk_at dksL_law_16 0 rfl rfl)
theorem dL_law_456 : decode cL_law 456 = .ok (.aload_n 2, 1) := dk_44 (dk_at dksL_law_16 3 rfl rfl)
theorem dL_law_457 : decode cL_law 457 = .ok (.aload_n 0, 1) := dk_42 (dk_at dksL_law_16 4 rfl rfl)
theorem dL_law_458 : decode cL_law 458 = .ok (.iload_n 3, 1) := dk_29 (dk_at dksL_law_16 5 rfl rfl)
theorem dL_law_459 : decode cL_law 459 = .ok (.iconst 1, 1) := dk_4 (dk_at dksL_law_16 6 rfl rfl)
theorem dL_law_460 : decode cL_law 460 = .ok (.iadd, 1) := dk_96 (dk_at dksL_law_16 7 rfl rfl)
theorem dL_law_461 : decode cL_law 461 = .ok (.iaload, 1) := dk_46 (dk_at dksL_law_16 8 rfl rfl)
theorem dL_law_462 : decode cL_law 462 = .ok (.invokevirtual 72, 3) := dk_182 0 72 (dk_at dksL_law_16 9 rfl rfl)
theorem dL_law_465 : decode cL_law 465 = .ok (.if_icmp .eq 295, 3) := dk_159 1 39 (dk_at dksL_law_16 12 rfl rfl)
theorem dL_law_468 : decode cL_law 468 = .ok (.iconst 0, 1) := dk_3 (dk_at dksL_law_16 15 rfl rfl)
theorem dL_law_469 : decode cL_law 469 = .ok (.ireturn, 1) := dk_172 (dk_at dksL_law_16 16 rfl rfl)
theorem dL_law_470 : decode cL_law 470 = .ok (.aload_n 1, 1) := dk_43 (dk_at dksL_law_16 17 rfl rfl)
theorem dL_law_471 : decode cL_law 471 = .ok (.aload_n 0, 1) := dk_42 (dk_at dksL_law_16 18 rfl rfl)
theorem dL_law_472 : decode cL_law 472 = .ok (.iload_n 3, 1) := dk_29 (dk_at dksL_law_16 19 rfl rfl)
theorem dL_law_473 : decode cL_law 473 = .ok (.iconst 1, 1) := dk_4 (dk_at dksL_law_16 20 rfl rfl)
theorem dL_law_474 : decode cL_law 474 = .ok (.iadd, 1) := dk_96 (dk_at dksL_law_16 21 rfl rfl)
theorem dL_law_475 : decode cL_law 475 = .ok (.iaload, 1) := dk_46 (dk_at dksL_law_16 22 rfl rfl)
theorem dL_law_476 : decode cL_law 476 = .ok (.invokevirtual 73, 3) := dk_182 0 73 (dk_at dksL_law_17 0 rfl rfl)
theorem dL_law_479 : decode cL_law 479 = .ok (.aload_n 2, 1) := dk_44 (dk_at dksL_law_17 3 rfl rfl)
theorem dL_law_480 : decode cL_law 480 = .ok (.aload_n 0, 1) := dk_42 (dk_at dksL_law_17 4 rfl rfl)
theorem dL_law_481 : decode cL_law 481 = .ok (.iload_n 3, 1) := dk_29 (dk_at dksL_law_17 5 rfl rfl)
theorem dL_law_482 : decode cL_law 482 = .ok (.iconst 1, 1) := dk_4 (dk_at dksL_law_17 6 rfl rfl)
theorem dL_law_483 : decode cL_law 483 = .ok (.iadd, 1) := dk_96 (dk_at dksL_law_17 7 rfl rfl)
theorem dL_law_484 : decode cL_law 484 = .ok (.iaload, 1) := dk_46 (dk_at dksL_law_17 8 rfl rfl)
theorem dL_law_485 : decode cL_law 485 = .ok (.invokevirtual 76, 3) := dk_182 0 76 (dk_at dksL_law_17 9 rfl rfl)
theorem dL_law_488 : decode cL_law 488 = .ok (.if_icmp .eq 272, 3) := dk_159 1 16 (dk_at dksL_law_17 12 rfl rfl)
theorem dL_law_491 : decode cL_law 491 = .ok (.iconst 0, 1) := dk_3 (dk_at dksL_law_17 15 rfl rfl)
theorem dL_law_492 : decode cL_law 492 = .ok (.ireturn, 1) := dk_172 (dk_at dksL_law_17 16 rfl rfl)
theorem dL_law_493 : decode cL_law 493 = .ok (.aload_n 1, 1) := dk_43 (dk_at dksL_law_17 17 rfl rfl)
theorem dL_law_494 : decode cL_law 494 = .ok (.aload_n 0, 1) := dk_42 (dk_at dksL_law_17 18 rfl rfl)
theorem dL_law_495 : decode cL_law 495 = .ok (.iload_n 3, 1) := dk_29 (dk_at dksL_law_17 19 rfl rfl)
theorem dL_law_496 : decode cL_law 496 = .ok (.iconst 1, 1) := dk_4 (dk_at dksL_law_17 20 rfl rfl)
theorem dL_law_497 : decode cL_law 497 = .ok (.iadd, 1) := dk_96 (dk_at dksL_law_17 21 rfl rfl)
theorem dL_law_498 : decode cL_law 498 = .ok (.iaload, 1) := dk_46 (dk_at dksL_law_17 22 rfl rfl)
theorem dL_law_499 : decode cL_law 499 = .ok (.aload_n 0, 1) := dk_42 (dk_at dksL_law_17 23 rfl rfl)
theorem dL_law_500 : decode cL_law 500 = .ok (.iload_n 3, 1) := dk_29 (dk_at dksL_law_18 0 rfl rfl)
theorem dL_law_501 : decode cL_law 501 = .ok (.iconst 2, 1) := dk_5 (dk_at dksL_law_18 1 rfl rfl)
theorem dL_law_502 : decode cL_law 502 = .ok (.iadd, 1) := dk_96 (dk_at dksL_law_18 2 rfl rfl)
theorem dL_law_503 : decode cL_law 503 = .ok (.iaload, 1) := dk_46 (dk_at dksL_law_18 3 rfl rfl)
theorem dL_law_504 : decode cL_law 504 = .ok (.aload_n 0, 1) := dk_42 (dk_at dksL_law_18 4 rfl rfl)
theorem dL_law_505 : decode cL_law 505 = .ok (.iload_n 3, 1) := dk_29 (dk_at dksL_law_18 5 rfl rfl)
theorem dL_law_506 : decode cL_law 506 = .ok (.iconst 3, 1) := dk_6 (dk_at dksL_law_18 6 rfl rfl)
theorem dL_law_507 : decode cL_law 507 = .ok (.iadd, 1) := dk_96 (dk_at dksL_law_18 7 rfl rfl)
theorem dL_law_508 : decode cL_law 508 = .ok (.iaload, 1) := dk_46 (dk_at dksL_law_18 8 rfl rfl)
theorem dL_law_509 : decode cL_law 509 = .ok (.invokevirtual 77, 3) := dk_182 0 77 (dk_at dksL_law_18 9 rfl rfl)
theorem dL_law_512 : decode cL_law 512 = .ok (.aload_n 2, 1) := dk_44 (dk_at dksL_law_18 12 rfl rfl)
theorem dL_law_513 : decode cL_law 513 = .ok (.aload_n 0, 1) := dk_42 (dk_at dksL_law_18 13 rfl rfl)
theorem dL_law_514 : decode cL_law 514 = .ok (.iload_n 3, 1) := dk_29 (dk_at dksL_law_18 14 rfl rfl)
theorem dL_law_515 : decode cL_law 515 = .ok (.iconst 1, 1) := dk_4 (dk_at dksL_law_18 15 rfl rfl)
theorem dL_law_516 : decode cL_law 516 = .ok (.iadd, 1) := dk_96 (dk_at dksL_law_18 16 rfl rfl)
theorem dL_law_517 : decode cL_law 517 = .ok (.iaload, 1) := dk_46 (dk_at dksL_law_18 17 rfl rfl)
theorem dL_law_518 : decode cL_law 518 = .ok (.aload_n 0, 1) := dk_42 (dk_at dksL_law_18 18 rfl rfl)
theorem dL_law_519 : decode cL_law 519 = .ok (.iload_n 3, 1) := dk_29 (dk_at dksL_law_18 19 rfl rfl)
theorem dL_law_520 : decode cL_law 520 = .ok (.iconst 2, 1) := dk_5 (dk_at dksL_law_18 20 rfl rfl)
theorem dL_law_521 : decode cL_law 521 = .ok (.iadd, 1) := dk_96 (dk_at dksL_law_18 21 rfl rfl)
theorem dL_law_522 : decode cL_law 522 = .ok (.iaload, 1) := dk_46 (dk_at dksL_law_18 22 rfl rfl)
theorem dL_law_523 : decode cL_law 523 = .ok (.aload_n 0, 1) := dk_42 (dk_at dksL_law_18 23 rfl rfl)
theorem dL_law_524 : decode cL_law 524 = .ok (.iload_n 3, 1) := dk_29 (dk_at dksL_law_19 0 rfl rfl)
theorem dL_law_525 : decode cL_law 525 = .ok (.iconst 3, 1) := dk_6 (dk_at dksL_law_19 1 rfl rfl)
theorem dL_law_526 : decode cL_law 526 = .ok (.iadd, 1) := dk_96 (dk_at dksL_law_19 2 rfl rfl)
theorem dL_law_527 : decode cL_law 527 = .ok (.iaload, 1) := dk_46 (dk_at dksL_law_19 3 rfl rfl)
theorem dL_law_528 : decode cL_law 528 = .ok (.invokevirtual 80, 3) := dk_182 0 80 (dk_at dksL_law_19 4 rfl rfl)
theorem dL_law_531 : decode cL_law 531 = .ok (.if_icmp .eq 229, 3) := dk_159 0 229 (dk_at dksL_law_19 7 rfl rfl)
theorem dL_law_534 : decode cL_law 534 = .ok (.iconst 0, 1) := dk_3 (dk_at dksL_law_19 10 rfl rfl)
theorem dL_law_535 : decode cL_law 535 = .ok (.ireturn, 1) := dk_172 (dk_at dksL_law_19 11 rfl rfl)
theorem dL_law_536 : decode cL_law 536 = .ok (.aload_n 1, 1) := dk_43 (dk_at dksL_law_19 12 rfl rfl)
theorem dL_law_537 : decode cL_law 537 = .ok (.invokevirtual 81, 3) := dk_182 0 81 (dk_at dksL_law_19 13 rfl rfl)
theorem dL_law_540 : decode cL_law 540 = .ok (.aload_n 2, 1) := dk_44 (dk_at dksL_law_19 16 rfl rfl)
theorem dL_law_541 : decode cL_law 541 = .ok (.invokevirtual 84, 3) := dk_182 0 84 (dk_at dksL_law_19 17 rfl rfl)
theorem dL_law_544 : decode cL_law 544 = .ok (.if_icmp .eq 216, 3) := dk_159 0 216 (dk_at dksL_law_19 20 rfl rfl)
theorem dL_law_547 : decode cL_law 547 = .ok (.iconst 0, 1) := dk_3 (dk_at dksL_law_19 23 rfl rfl)
theorem dL_law_548 : decode cL_law 548 = .ok (.ireturn, 1) := dk_172 (dk_at dksL_law_20 0 rfl rfl)
theorem dL_law_549 : decode cL_law 549 = .ok (.aload_n 1, 1) := dk_43 (dk_at dksL_law_20 1 rfl rfl)
theorem dL_law_550 : decode cL_law 550 = .ok (.aload_n 0, 1) := dk_42 (dk_at dksL_law_20 2 rfl rfl)
theorem dL_law_551 : decode cL_law 551 = .ok (.iload_n 3, 1) := dk_29 (dk_at dksL_law_20 3 rfl rfl)
theorem dL_law_552 : decode cL_law 552 = .ok (.iconst 1, 1) := dk_4 (dk_at dksL_law_20 4 rfl rfl)
theorem dL_law_553 : decode cL_law 553 = .ok (.iadd, 1) := dk_96 (dk_at dksL_law_20 5 rfl rfl)
theorem dL_law_554 : decode cL_law 554 = .ok (.iaload, 1) := dk_46 (dk_at dksL_law_20 6 rfl rfl)
theorem dL_law_555 : decode cL_law 555 = .ok (.aload_n 0, 1) := dk_42 (dk_at dksL_law_20 7 rfl rfl)
theorem dL_law_556 : decode cL_law 556 = .ok (.iload_n 3, 1) := dk_29 (dk_at dksL_law_20 8 rfl rfl)
theorem dL_law_557 : decode cL_law 557 = .ok (.iconst 2, 1) := dk_5 (dk_at dksL_law_20 9 rfl rfl)
theorem dL_law_558 : decode cL_law 558 = .ok (.iadd, 1) := dk_96 (dk_at dksL_law_20 10 rfl rfl)
theorem dL_law_559 : decode cL_law 559 = .ok (.iaload, 1) := dk_46 (dk_at dksL_law_20 11 rfl rfl)
theorem dL_law_560 : decode cL_law 560 = .ok (.aload_n 0, 1) := dk_42 (dk_at dksL_law_20 12 rfl rfl)
theorem dL_law_561 : decode cL_law 561 = .ok (.iload_n 3, 1) := dk_29 (dk_at dksL_law_20 13 rfl rfl)
theorem dL_law_562 : decode cL_law 562 = .ok (.iconst 3, 1) := dk_6 (dk_at dksL_law_20 14 rfl rfl)
theorem dL_law_563 : decode cL_law 563 = .ok (.iadd, 1) := dk_96 (dk_at dksL_law_20 15 rfl rfl)
theorem dL_law_564 : decode cL_law 564 = .ok (.iaload, 1) := dk_46 (dk_at dksL_law_20 16 rfl rfl)
theorem dL_law_565 : decode cL_law 565 = .ok (.ifCond .eq 7, 3) := dk_153 0 7 (dk_at dksL_law_20 17 rfl rfl)
theorem dL_law_568 : decode cL_law 568 = .ok (.iconst 1, 1) := dk_4 (dk_at dksL_law_20 20 rfl rfl)
theorem dL_law_569 : decode cL_law 569 = .ok (.goto 4, 3) := dk_167 0 4 (dk_at dksL_law_20 21 rfl rfl)
theorem dL_law_572 : decode cL_law 572 = .ok (.iconst 0, 1) := dk_3 (dk_at dksL_law_21 0 rfl rfl)
theorem dL_law_573 : decode cL_law 573 = .ok (.invokevirtual 85, 3) := dk_182 0 85 (dk_at dksL_law_21 1 rfl rfl)
theorem dL_law_576 : decode cL_law 576 = .ok (.aload_n 2, 1) := dk_44 (dk_at dksL_law_21 4 rfl rfl)
theorem dL_law_577 : decode cL_law 577 = .ok (.aload_n 0, 1) := dk_42 (dk_at dksL_law_21 5 rfl rfl)
theorem dL_law_578 : decode cL_law 578 = .ok (.iload_n 3, 1) := dk_29 (dk_at dksL_law_21 6 rfl rfl)
theorem dL_law_579 : decode cL_law 579 = .ok (.iconst 1, 1) := dk_4 (dk_at dksL_law_21 7 rfl rfl)
theorem dL_law_580 : decode cL_law 580 = .ok (.iadd, 1) := dk_96 (dk_at dksL_law_21 8 rfl rfl)
theorem dL_law_581 : decode cL_law 581 = .ok (.iaload, 1) := dk_46 (dk_at dksL_law_21 9 rfl rfl)
theorem dL_law_582 : decode cL_law 582 = .ok (.aload_n 0, 1) := dk_42 (dk_at dksL_law_21 10 rfl rfl)
theorem dL_law_583 : decode cL_law 583 = .ok (.iload_n 3, 1) := dk_29 (dk_at dksL_law_21 11 rfl rfl)
theorem dL_law_584 : decode cL_law 584 = .ok (.iconst 2, 1) := dk_5 (dk_at dksL_law_21 12 rfl rfl)
theorem dL_law_585 : decode cL_law 585 = .ok (.iadd, 1) := dk_96 (dk_at dksL_law_21 13 rfl rfl)
theorem dL_law_586 : decode cL_law 586 = .ok (.iaload, 1) := dk_46 (dk_at dksL_law_21 14 rfl rfl)
theorem dL_law_587 : decode cL_law 587 = .ok (.aload_n 0, 1) := dk_42 (dk_at dksL_law_21 15 rfl rfl)
theorem dL_law_588 : decode cL_law 588 = .ok (.iload_n 3, 1) := dk_29 (dk_at dksL_law_21 16 rfl rfl)
theorem dL_law_589 : decode cL_law 589 = .ok (.iconst 3, 1) := dk_6 (dk_at dksL_law_21 17 rfl rfl)
theorem dL_law_590 : decode cL_law 590 = .ok (.iadd, 1) := dk_96 (dk_at dksL_law_21 18 rfl rfl)
theorem dL_law_591 : decode cL_law 591 = .ok (.iaload, 1) := dk_46 (dk_at dksL_law_21 19 rfl rfl)
theorem dL_law_592 : decode cL_law 592 = .ok (.ifCond .eq 7, 3) := dk_153 0 7 (dk_at dksL_law_21 20 rfl rfl)
theorem dL_law_595 : decode cL_law 595 = .ok (.iconst 1, 1) := dk_4 (dk_at dksL_law_21 23 rfl rfl)
theorem dL_law_596 : decode cL_law 596 = .ok (.goto 4, 3) := dk_167 0 4 (dk_at dksL_law_22 0 rfl rfl)
theorem dL_law_599 : decode cL_law 599 = .ok (.iconst 0, 1) := dk_3 (dk_at dksL_law_22 3 rfl rfl)
theorem dL_law_600 : decode cL_law 600 = .ok (.invokevirtual 89, 3) := dk_182 0 89 (dk_at dksL_law_22 4 rfl rfl)
theorem dL_law_603 : decode cL_law 603 = .ok (.if_icmp .eq 157, 3) := dk_159 0 157 (dk_at dksL_law_22 7 rfl rfl)
theorem dL_law_606 : decode cL_law 606 = .ok (.iconst 0, 1) := dk_3 (dk_at dksL_law_22 10 rfl rfl)
theorem dL_law_607 : decode cL_law 607 = .ok (.ireturn, 1) := dk_172 (dk_at dksL_law_22 11 rfl rfl)
theorem dL_law_608 : decode cL_law 608 = .ok (.aload_n 1, 1) := dk_43 (dk_at dksL_law_22 12 rfl rfl)
theorem dL_law_609 : decode cL_law 609 = .ok (.invokevirtual 90, 3) := dk_182 0 90 (dk_at dksL_law_22 13 rfl rfl)
theorem dL_law_612 : decode cL_law 612 = .ok (.aload_n 2, 1) := dk_44 (dk_at dksL_law_22 16 rfl rfl)
theorem dL_law_613 : decode cL_law 613 = .ok (.invokevirtual 93, 3) := dk_182 0 93 (dk_at dksL_law_22 17 rfl rfl)
theorem dL_law_616 : decode cL_law 616 = .ok (.if_icmp .eq 144, 3) := dk_159 0 144 (dk_at dksL_law_22 20 rfl rfl)
theorem dL_law_619 : decode cL_law 619 = .ok (.iconst 0, 1) := dk_3 (dk_at dksL_law_22 23 rfl rfl)
theorem dL_law_620 : decode cL_law 620 = .ok (.ireturn, 1) := dk_172 (dk_at dksL_law_23 0 rfl rfl)
theorem dL_law_621 : decode cL_law 621 = .ok (.aload_n 1, 1) := dk_43 (dk_at dksL_law_23 1 rfl rfl)
theorem dL_law_622 : decode cL_law 622 = .ok (.aload_n 0, 1) := dk_42 (dk_at dksL_law_23 2 rfl rfl)
theorem dL_law_623 : decode cL_law 623 = .ok (.iload_n 3, 1) := dk_29 (dk_at dksL_law_23 3 rfl rfl)
theorem dL_law_624 : decode cL_law 624 = .ok (.iconst 1, 1) := dk_4 (dk_at dksL_law_23 4 rfl rfl)
theorem dL_law_625 : decode cL_law 625 = .ok (.iadd, 1) := dk_96 (dk_at dksL_law_23 5 rfl rfl)
theorem dL_law_626 : decode cL_law 626 = .ok (.iaload, 1) := dk_46 (dk_at dksL_law_23 6 rfl rfl)
theorem dL_law_627 : decode cL_law 627 = .ok (.aload_n 0, 1) := dk_42 (dk_at dksL_law_23 7 rfl rfl)
theorem dL_law_628 : decode cL_law 628 = .ok (.iload_n 3, 1) := dk_29 (dk_at dksL_law_23 8 rfl rfl)
theorem dL_law_629 : decode cL_law 629 = .ok (.iconst 2, 1) := dk_5 (dk_at dksL_law_23 9 rfl rfl)
theorem dL_law_630 : decode cL_law 630 = .ok (.iadd, 1) := dk_96 (dk_at dksL_law_23 10 rfl rfl)
theorem dL_law_631 : decode cL_law 631 = .ok (.iaload, 1) := dk_46 (dk_at dksL_law_23 11 rfl rfl)
theorem dL_law_632 : decode cL_law 632 = .ok (.invokevirtual 94, 3) := dk_182 0 94 (dk_at dksL_law_23 12 rfl rfl)
theorem dL_law_635 : decode cL_law 635 = .ok (.aload_n 2, 1) := dk_44 (dk_at dksL_law_23 15 rfl rfl)
theorem dL_law_636 : decode cL_law 636 = .ok (.aload_n 0, 1) := dk_42 (dk_at dksL_law_23 16 rfl rfl)
theorem dL_law_637 : decode cL_law 637 = .ok (.iload_n 3, 1) := dk_29 (dk_at dksL_law_23 17 rfl rfl)
theorem dL_law_638 : decode cL_law 638 = .ok (.iconst 1, 1) := dk_4 (dk_at dksL_law_23 18 rfl rfl)
theorem dL_law_639 : decode cL_law 639 = .ok (.iadd, 1) := dk_96 (dk_at dksL_law_23 19 rfl rfl)
theorem dL_law_640 : decode cL_law 640 = .ok (.iaload, 1) := dk_46 (dk_at dksL_law_23 20 rfl rfl)
theorem dL_law_641 : decode cL_law 641 = .ok (.aload_n 0, 1) := dk_42 (dk_at dksL_law_23 21 rfl rfl)
theorem dL_law_642 : decode cL_law 642 = .ok (.iload_n 3, 1) := dk_29 (dk_at dksL_law_23 22 rfl rfl)
theorem dL_law_643 : decode cL_law 643 = .ok (.iconst 2, 1) := dk_5 (dk_at dksL_law_23 23 rfl rfl)
theorem dL_law_644 : decode cL_law 644 = .ok (.iadd, 1) := dk_96 (dk_at dksL_law_24 0 rfl rfl)
theorem dL_law_645 : decode cL_law 645 = .ok (.iaload, 1) := dk_46 (dk_at dksL_law_24 1 rfl rfl)
theorem dL_law_646 : decode cL_law 646 = .ok (.invokevirtual 97, 3) := dk_182 0 97 (dk_at dksL_law_24 2 rfl rfl)
theorem dL_law_649 : decode cL_law 649 = .ok (.if_icmp .eq 111, 3) := dk_159 0 111 (dk_at dksL_law_24 5 rfl rfl)
theorem dL_law_652 : decode cL_law 652 = .ok (.iconst 0, 1) := dk_3 (dk_at dksL_law_24 8 rfl rfl)
theorem dL_law_653 : decode cL_law 653 = .ok (.ireturn, 1) := dk_172 (dk_at dksL_law_24 9 rfl rfl)
theorem dL_law_654 : decode cL_law 654 = .ok (.aload_n 1, 1) := dk_43 (dk_at dksL_law_24 10 rfl rfl)
theorem dL_law_655 : decode cL_law 655 = .ok (.aload_n 0, 1) := dk_42 (dk_at dksL_law_24 11 rfl rfl)
theorem dL_law_656 : decode cL_law 656 = .ok (.iload_n 3, 1) := dk_29 (dk_at dksL_law_24 12 rfl rfl)
theorem dL_law_657 : decode cL_law 657 = .ok (.iconst 1, 1) := dk_4 (dk_at dksL_law_24 13 rfl rfl)
theorem dL_law_658 : decode cL_law 658 = .ok (.iadd, 1) := dk_96 (dk_at dksL_law_24 14 rfl rfl)
theorem dL_law_659 : decode cL_law 659 = .ok (.iaload, 1) := dk_46 (dk_at dksL_law_24 15 rfl rfl)
theorem dL_law_660 : decode cL_law 660 = .ok (.aload_n 0, 1) := dk_42 (dk_at dksL_law_24 16 rfl rfl)
theorem dL_law_661 : decode cL_law 661 = .ok (.iload_n 3, 1) := dk_29 (dk_at dksL_law_24 17 rfl rfl)
theorem dL_law_662 : decode cL_law 662 = .ok (.iconst 2, 1) := dk_5 (dk_at dksL_law_24 18 rfl rfl)
theorem dL_law_663 : decode cL_law 663 = .ok (.iadd, 1) := dk_96 (dk_at dksL_law_24 19 rfl rfl)
theorem dL_law_664 : decode cL_law 664 = .ok (.iaload, 1) := dk_46 (dk_at dksL_law_24 20 rfl rfl)
theorem dL_law_665 : decode cL_law 665 = .ok (.aload_n 0, 1) := dk_42 (dk_at dksL_law_24 21 rfl rfl)
theorem dL_law_666 : decode cL_law 666 = .ok (.iload_n 3, 1) := dk_29 (dk_at dksL_law_24 22 rfl rfl)
theorem dL_law_667 : decode cL_law 667 = .ok (.iconst 3, 1) := dk_6 (dk_at dksL_law_24 23 rfl rfl)
theorem dL_law_668 : decode cL_law 668 = .ok (.iadd, 1) := dk_96 (dk_at dksL_law_25 0 rfl rfl)
theorem dL_law_669 : decode cL_law 669 = .ok (.iaload, 1) := dk_46 (dk_at dksL_law_25 1 rfl rfl)
theorem dL_law_670 : decode cL_law 670 = .ok (.invokevirtual 98, 3) := dk_182 0 98 (dk_at dksL_law_25 2 rfl rfl)
theorem dL_law_673 : decode cL_law 673 = .ok (.aload_n 2, 1) := dk_44 (dk_at dksL_law_25 5 rfl rfl)
theorem dL_law_674 : decode cL_law 674 = .ok (.aload_n 0, 1) := dk_42 (dk_at dksL_law_25 6 rfl rfl)
theorem dL_law_675 : decode cL_law 675 = .ok (.iload_n 3, 1) := dk_29 (dk_at dksL_law_25 7 rfl rfl)
theorem dL_law_676 : decode cL_law 676 = .ok (.iconst 1, 1) := dk_4 (dk_at dksL_law_25 8 rfl rfl)
theorem dL_law_677 : decode cL_law 677 = .ok (.iadd, 1) := dk_96 (dk_at dksL_law_25 9 rfl rfl)
theorem dL_law_678 : decode cL_law 678 = .ok (.iaload, 1) := dk_46 (dk_at dksL_law_25 10 rfl rfl)
theorem dL_law_679 : decode cL_law 679 = .ok (.aload_n 0, 1) := dk_42 (dk_at dksL_law_25 11 rfl rfl)
theorem dL_law_680 : decode cL_law 680 = .ok (.iload_n 3, 1) := dk_29 (dk_at dksL_law_25 12 rfl rfl)
theorem dL_law_681 : decode cL_law 681 = .ok (.iconst 2, 1) := dk_5 (dk_at dksL_law_25 13 rfl rfl)
theorem dL_law_682 : decode cL_law 682 = .ok (.iadd, 1) := dk_96 (dk_at dksL_law_25 14 rfl rfl)
theorem dL_law_683 : decode cL_law 683 = .ok (.iaload, 1) := dk_46 (dk_at dksL_law_25 15 rfl rfl)
theorem dL_law_684 : decode cL_law 684 = .ok (.aload_n 0, 1) := dk_42 (dk_at dksL_law_25 16 rfl rfl)
theorem dL_law_685 : decode cL_law 685 = .ok (.iload_n 3, 1) := dk_29 (dk_at dksL_law_25 17 rfl rfl)
theorem dL_law_686 : decode cL_law 686 = .ok (.iconst 3, 1) := dk_6 (dk_at dksL_law_25 18 rfl rfl)
theorem dL_law_687 : decode cL_law 687 = .ok (.iadd, 1) := dk_96 (dk_at dksL_law_25 19 rfl rfl)
theorem dL_law_688 : decode cL_law 688 = .ok (.iaload, 1) := dk_46 (dk_at dksL_law_25 20 rfl rfl)
theorem dL_law_689 : decode cL_law 689 = .ok (.invokevirtual 101, 3) := dk_182 0 101 (dk_at dksL_law_25 21 rfl rfl)
theorem dL_law_692 : decode cL_law 692 = .ok (.if_icmp .eq 68, 3) := dk_159 0 68 (dk_at dksL_law_26 0 rfl rfl)
theorem dL_law_695 : decode cL_law 695 = .ok (.iconst 0, 1) := dk_3 (dk_at dksL_law_26 3 rfl rfl)
theorem dL_law_696 : decode cL_law 696 = .ok (.ireturn, 1) := dk_172 (dk_at dksL_law_26 4 rfl rfl)
theorem dL_law_697 : decode cL_law 697 = .ok (.aload_n 1, 1) := dk_43 (dk_at dksL_law_26 5 rfl rfl)
theorem dL_law_698 : decode cL_law 698 = .ok (.invokevirtual 102, 3) := dk_182 0 102 (dk_at dksL_law_26 6 rfl rfl)
theorem dL_law_701 : decode cL_law 701 = .ok (.aload_n 2, 1) := dk_44 (dk_at dksL_law_26 9 rfl rfl)
theorem dL_law_702 : decode cL_law 702 = .ok (.invokevirtual 105, 3) := dk_182 0 105 (dk_at dksL_law_26 10 rfl rfl)
theorem dL_law_705 : decode cL_law 705 = .ok (.if_icmp .eq 55, 3) := dk_159 0 55 (dk_at dksL_law_26 13 rfl rfl)
theorem dL_law_708 : decode cL_law 708 = .ok (.iconst 0, 1) := dk_3 (dk_at dksL_law_26 16 rfl rfl)
theorem dL_law_709 : decode cL_law 709 = .ok (.ireturn, 1) := dk_172 (dk_at dksL_law_26 17 rfl rfl)
theorem dL_law_710 : decode cL_law 710 = .ok (.aload_n 1, 1) := dk_43 (dk_at dksL_law_26 18 rfl rfl)
theorem dL_law_711 : decode cL_law 711 = .ok (.invokevirtual 106, 3) := dk_182 0 106 (dk_at dksL_law_26 19 rfl rfl)
theorem dL_law_714 : decode cL_law 714 = .ok (.aload_n 2, 1) := dk_44 (dk_at dksL_law_26 22 rfl rfl)
theorem dL_law_715 : decode cL_law 715 = .ok (.invokevirtual 109, 3) := dk_182 0 109 (dk_at dksL_law_27 0 rfl rfl)
theorem dL_law_718 : decode cL_law 718 = .ok (.if_icmp .eq 42, 3) := dk_159 0 42 (dk_at dksL_law_27 3 rfl rfl)
theorem dL_law_721 : decode cL_law 721 = .ok (.iconst 0, 1) := dk_3 (dk_at dksL_law_27 6 rfl rfl)
theorem dL_law_722 : decode cL_law 722 = .ok (.ireturn, 1) := dk_172 (dk_at dksL_law_27 7 rfl rfl)
theorem dL_law_723 : decode cL_law 723 = .ok (.aload_n 1, 1) := dk_43 (dk_at dksL_law_27 8 rfl rfl)
theorem dL_law_724 : decode cL_law 724 = .ok (.aload_n 0, 1) := dk_42 (dk_at dksL_law_27 9 rfl rfl)
theorem dL_law_725 : decode cL_law 725 = .ok (.iload_n 3, 1) := dk_29 (dk_at dksL_law_27 10 rfl rfl)
theorem dL_law_726 : decode cL_law 726 = .ok (.iconst 1, 1) := dk_4 (dk_at dksL_law_27 11 rfl rfl)
theorem dL_law_727 : decode cL_law 727 = .ok (.iadd, 1) := dk_96 (dk_at dksL_law_27 12 rfl rfl)
theorem dL_law_728 : decode cL_law 728 = .ok (.iaload, 1) := dk_46 (dk_at dksL_law_27 13 rfl rfl)
theorem dL_law_729 : decode cL_law 729 = .ok (.invokevirtual 110, 3) := dk_182 0 110 (dk_at dksL_law_27 14 rfl rfl)
theorem dL_law_732 : decode cL_law 732 = .ok (.aload_n 2, 1) := dk_44 (dk_at dksL_law_27 17 rfl rfl)
theorem dL_law_733 : decode cL_law 733 = .ok (.aload_n 0, 1) := dk_42 (dk_at dksL_law_27 18 rfl rfl)
theorem dL_law_734 : decode cL_law 734 = .ok (.iload_n 3, 1) := dk_29 (dk_at dksL_law_27 19 rfl rfl)
theorem dL_law_735 : decode cL_law 735 = .ok (.iconst 1, 1) := dk_4 (dk_at dksL_law_27 20 rfl rfl)
theorem dL_law_736 : decode cL_law 736 = .ok (.iadd, 1) := dk_96 (dk_at dksL_law_27 21 rfl rfl)
theorem dL_law_737 : decode cL_law 737 = .ok (.iaload, 1) := dk_46 (dk_at dksL_law_27 22 rfl rfl)
theorem dL_law_738 : decode cL_law 738 = .ok (.invokevirtual 113, 3) := dk_182 0 113 (dk_at dksL_law_28 0 rfl rfl)
theorem dL_law_741 : decode cL_law 741 = .ok (.if_icmp .eq 19, 3) := dk_159 0 19 (dk_at dksL_law_28 3 rfl rfl)
theorem dL_law_744 : decode cL_law 744 = .ok (.iconst 0, 1) := dk_3 (dk_at dksL_law_28 6 rfl rfl)
theorem dL_law_745 : decode cL_law 745 = .ok (.ireturn, 1) := dk_172 (dk_at dksL_law_28 7 rfl rfl)
theorem dL_law_746 : decode cL_law 746 = .ok (.aload_n 1, 1) := dk_43 (dk_at dksL_law_28 8 rfl rfl)
theorem dL_law_747 : decode cL_law 747 = .ok (.invokevirtual 114, 3) := dk_182 0 114 (dk_at dksL_law_28 9 rfl rfl)
theorem dL_law_750 : decode cL_law 750 = .ok (.aload_n 2, 1) := dk_44 (dk_at dksL_law_28 12 rfl rfl)
theorem dL_law_751 : decode cL_law 751 = .ok (.invokevirtual 118, 3) := dk_182 0 118 (dk_at dksL_law_28 13 rfl rfl)
theorem dL_law_754 : decode cL_law 754 = .ok (.lcmp, 1) := dk_148 (dk_at dksL_law_28 16 rfl rfl)
theorem dL_law_755 : decode cL_law 755 = .ok (.ifCond .eq 5, 3) := dk_153 0 5 (dk_at dksL_law_28 17 rfl rfl)
theorem dL_law_758 : decode cL_law 758 = .ok (.iconst 0, 1) := dk_3 (dk_at dksL_law_28 20 rfl rfl)
theorem dL_law_759 : decode cL_law 759 = .ok (.ireturn, 1) := dk_172 (dk_at dksL_law_28 21 rfl rfl)
theorem dL_law_760 : decode cL_law 760 = .ok (.iinc 3 4, 3) := dk_132 3 4 (dk_at dksL_law_29 0 rfl rfl)
theorem dL_law_763 : decode cL_law 763 = .ok (.goto (-745), 3) := dk_167 253 23 (dk_at dksL_law_29 3 rfl rfl)
theorem dL_law_766 : decode cL_law 766 = .ok (.iconst 1, 1) := dk_4 (dk_at dksL_law_29 6 rfl rfl)
theorem dL_law_767 : decode cL_law 767 = .ok (.ireturn, 1) := dk_172 (dk_at dksL_law_29 7 rfl rfl)

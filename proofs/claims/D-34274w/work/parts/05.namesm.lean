/-! TrellistagModel -/
set_option maxRecDepth 100000
def RX6 : String := "TrellistagModel"
def TX6 : u_T := fun k => match k with
  | 0 => ("TrellistagModel", "thrown", "I", false)
  | 1 => ("TrellistagModel", "typed", "I", false)
  | 2 => ("TrellistagModel", "letters", "I", false)
  | 3 => ("TrellistagModel", "draft", "[I", true)
  | 4 => ("TrellistagModel", "draftTag", "[I", true)
  | 5 => ("TrellistagModel", "drafted", "I", false)
  | 6 => ("TrellistagModel", "its", "[I", true)
  | 7 => ("TrellistagModel", "tagOf", "[I", true)
  | 8 => ("TrellistagModel", "many", "[I", true)
  | 9 => ("TrellistagModel", "counts", "[Z", true)
  | 10 => ("TrellistagModel", "texts", "I", false)
  | 11 => ("TrellistagModel", "sentence", "[I", true)
  | 12 => ("TrellistagModel", "locked", "[I", true)
  | 13 => ("TrellistagModel", "places", "I", false)
  | 14 => ("TrellistagModel", "ofWord", "[J", true)
  | 15 => ("TrellistagModel", "ofStep", "[J", true)
  | 16 => ("TrellistagModel", "ofFirst", "[J", true)
  | 17 => ("TrellistagModel", "best", "[J", true)
  | 18 => ("TrellistagModel", "bestPath", "[I", true)
  | 19 => ("TrellistagModel", "found", "I", false)
  | 20 => ("TrellistagModel", "sum", "J", false)
  | _ => ("TrellistagModel", "part", "J", false)
def tyX6 : Nat → FieldType := fun k => match k with
  | 0 => .int
  | 1 => .int
  | 2 => .int
  | 3 => .array .int
  | 4 => .array .int
  | 5 => .int
  | 6 => .array .int
  | 7 => .array .int
  | 8 => .array .int
  | 9 => .array .boolean
  | 10 => .int
  | 11 => .array .int
  | 12 => .array .int
  | 13 => .int
  | 14 => .array .long
  | 15 => .array .long
  | 16 => .array .long
  | 17 => .array .long
  | 18 => .array .int
  | 19 => .int
  | 20 => .long
  | _ => .long
abbrev wsX60 : List Cond := u_ws RX6 TX6 22
set_option maxRecDepth 100000 in
theorem nmX6 : ∀ a, a < 22 → ∀ b, b < 22 → a ≠ b → (TX6 a).2.1 ≠ (TX6 b).2.1 := by decide +kernel
set_option maxRecDepth 100000 in
theorem tyX6_ok : ∀ k, k < 22 → parseFieldDescriptor (TX6 k).2.2.1 = some (tyX6 k) := by decide +kernel
abbrev cX6_init : ByteArray := prog_13_method_1_code
def yX6_init : MethodName := ⟨RX6, "<init>", "()V"⟩
def dkwX6_init_4 : List UInt8 := [181, 0, 45, 42, 16, 10, 188, 10, 181, 0, 48, 42, 3, 181, 0, 51, 177]
abbrev dktX6_init_4 : List UInt8 := dkwX6_init_4 ++ []
def dkwX6_init_3 : List UInt8 := [181, 0, 35, 42, 16, 25, 188, 11, 181, 0, 39, 42, 8, 188, 11, 181, 0, 42, 42, 16, 10, 188, 11]
abbrev dktX6_init_3 : List UInt8 := dkwX6_init_3 ++ dktX6_init_4
def dkwX6_init_2 : List UInt8 := [188, 4, 181, 0, 25, 42, 8, 188, 10, 181, 0, 29, 42, 8, 188, 10, 181, 0, 32, 42, 16, 25, 188, 11]
abbrev dktX6_init_2 : List UInt8 := dkwX6_init_2 ++ dktX6_init_3
def dkwX6_init_1 : List UInt8 := [188, 10, 181, 0, 16, 42, 16, 120, 188, 10, 181, 0, 19, 42, 16, 20, 188, 10, 181, 0, 22, 42, 16, 20]
abbrev dktX6_init_1 : List UInt8 := dkwX6_init_1 ++ dktX6_init_2
def dkwX6_init_0 : List UInt8 := [42, 183, 0, 1, 42, 16, 6, 188, 10, 181, 0, 7, 42, 16, 6, 188, 10, 181, 0, 13, 42, 16, 120]
abbrev dktX6_init_0 : List UInt8 := dkwX6_init_0 ++ dktX6_init_1
theorem dksX6_init_0 : cX6_init.data.toList.drop 0 = dktX6_init_0 := by decide +kernel
theorem dksX6_init_1 : cX6_init.data.toList.drop 23 = dktX6_init_1 := dk_seg dksX6_init_0 23 rfl rfl
theorem dksX6_init_2 : cX6_init.data.toList.drop 47 = dktX6_init_2 := dk_seg dksX6_init_1 24 rfl rfl
theorem dksX6_init_3 : cX6_init.data.toList.drop 71 = dktX6_init_3 := dk_seg dksX6_init_2 24 rfl rfl
theorem dksX6_init_4 : cX6_init.data.toList.drop 94 = dktX6_init_4 := dk_seg dksX6_init_3 23 rfl rfl
theorem dX6_init_0 : decode cX6_init 0 = .ok (.aload_n 0, 1) := dk_42 (dk_at dksX6_init_0 0 rfl rfl)
theorem dX6_init_1 : decode cX6_init 1 = .ok (.invokespecial 1, 3) := dk_183 0 1 (dk_at dksX6_init_0 1 rfl rfl)
theorem dX6_init_4 : decode cX6_init 4 = .ok (.aload_n 0, 1) := dk_42 (dk_at dksX6_init_0 4 rfl rfl)
theorem dX6_init_5 : decode cX6_init 5 = .ok (.bipush 6, 2) := dk_16 6 (dk_at dksX6_init_0 5 rfl rfl)
theorem dX6_init_7 : decode cX6_init 7 = .ok (.newarray .int, 2) := dk_188_10 (dk_at dksX6_init_0 7 rfl rfl)
theorem dX6_init_9 : decode cX6_init 9 = .ok (.putfield 7, 3) := dk_181 0 7 (dk_at dksX6_init_0 9 rfl rfl)
theorem dX6_init_12 : decode cX6_init 12 = .ok (.aload_n 0, 1) := dk_42 (dk_at dksX6_init_0 12 rfl rfl)
theorem dX6_init_13 : decode cX6_init 13 = .ok (.bipush 6, 2) := dk_16 6 (dk_at dksX6_init_0 13 rfl rfl)
theorem dX6_init_15 : decode cX6_init 15 = .ok (.newarray .int, 2) := dk_188_10 (dk_at dksX6_init_0 15 rfl rfl)
theorem dX6_init_17 : decode cX6_init 17 = .ok (.putfield 13, 3) := dk_181 0 13 (dk_at dksX6_init_0 17 rfl rfl)
theorem dX6_init_20 : decode cX6_init 20 = .ok (.aload_n 0, 1) := dk_42 (dk_at dksX6_init_0 20 rfl rfl)
theorem dX6_init_21 : decode cX6_init 21 = .ok (.bipush 120, 2) := dk_16 120 (dk_at dksX6_init_0 21 rfl rfl)
theorem dX6_init_23 : decode cX6_init 23 = .ok (.newarray .int, 2) := dk_188_10 (dk_at dksX6_init_1 0 rfl rfl)
theorem dX6_init_25 : decode cX6_init 25 = .ok (.putfield 16, 3) := dk_181 0 16 (dk_at dksX6_init_1 2 rfl rfl)
theorem dX6_init_28 : decode cX6_init 28 = .ok (.aload_n 0, 1) := dk_42 (dk_at dksX6_init_1 5 rfl rfl)
theorem dX6_init_29 : decode cX6_init 29 = .ok (.bipush 120, 2) := dk_16 120 (dk_at dksX6_init_1 6 rfl rfl)
theorem dX6_init_31 : decode cX6_init 31 = .ok (.newarray .int, 2) := dk_188_10 (dk_at dksX6_init_1 8 rfl rfl)
theorem dX6_init_33 : decode cX6_init 33 = .ok (.putfield 19, 3) := dk_181 0 19 (dk_at dksX6_init_1 10 rfl rfl)
theorem dX6_init_36 : decode cX6_init 36 = .ok (.aload_n 0, 1) := dk_42 (dk_at dksX6_init_1 13 rfl rfl)
theorem dX6_init_37 : decode cX6_init 37 = .ok (.bipush 20, 2) := dk_16 20 (dk_at dksX6_init_1 14 rfl rfl)
theorem dX6_init_39 : decode cX6_init 39 = .ok (.newarray .int, 2) := dk_188_10 (dk_at dksX6_init_1 16 rfl rfl)
theorem dX6_init_41 : decode cX6_init 41 = .ok (.putfield 22, 3) := dk_181 0 22 (dk_at dksX6_init_1 18 rfl rfl)
theorem dX6_init_44 : decode cX6_init 44 = .ok (.aload_n 0, 1) := dk_42 (dk_at dksX6_init_1 21 rfl rfl)
theorem dX6_init_45 : decode cX6_init 45 = .ok (.bipush 20, 2) := dk_16 20 (dk_at dksX6_init_1 22 rfl rfl)
theorem dX6_init_47 : decode cX6_init 47 = .ok (.newarray .boolean, 2) := dk_188_4 (dk_at dksX6_init_2 0 rfl rfl)
theorem dX6_init_49 : decode cX6_init 49 = .ok (.putfield 25, 3) := dk_181 0 25 (dk_at dksX6_init_2 2 rfl rfl)
theorem dX6_init_52 : decode cX6_init 52 = .ok (.aload_n 0, 1) := dk_42 (dk_at dksX6_init_2 5 rfl rfl)
theorem dX6_init_53 : decode cX6_init 53 = .ok (.iconst 5, 1) := dk_8 (dk_at dksX6_init_2 6 rfl rfl)
theorem dX6_init_54 : decode cX6_init 54 = .ok (.newarray .int, 2) := dk_188_10 (dk_at dksX6_init_2 7 rfl rfl)
theorem dX6_init_56 : decode cX6_init 56 = .ok (.putfield 29, 3) := dk_181 0 29 (dk_at dksX6_init_2 9 rfl rfl)
theorem dX6_init_59 : decode cX6_init 59 = .ok (.aload_n 0, 1) := dk_42 (dk_at dksX6_init_2 12 rfl rfl)
theorem dX6_init_60 : decode cX6_init 60 = .ok (.iconst 5, 1) := dk_8 (dk_at dksX6_init_2 13 rfl rfl)
theorem dX6_init_61 : decode cX6_init 61 = .ok (.newarray .int, 2) := dk_188_10 (dk_at dksX6_init_2 14 rfl rfl)
theorem dX6_init_63 : decode cX6_init 63 = .ok (.putfield 32, 3) := dk_181 0 32 (dk_at dksX6_init_2 16 rfl rfl)
theorem dX6_init_66 : decode cX6_init 66 = .ok (.aload_n 0, 1) := dk_42 (dk_at dksX6_init_2 19 rfl rfl)
theorem dX6_init_67 : decode cX6_init 67 = .ok (.bipush 25, 2) := dk_16 25 (dk_at dksX6_init_2 20 rfl rfl)
theorem dX6_init_69 : decode cX6_init 69 = .ok (.newarray .long, 2) := dk_188_11 (dk_at dksX6_init_2 22 rfl rfl)
theorem dX6_init_71 : decode cX6_init 71 = .ok (.putfield 35, 3) := dk_181 0 35 (dk_at dksX6_init_3 0 rfl rfl)
theorem dX6_init_74 : decode cX6_init 74 = .ok (.aload_n 0, 1) := dk_42 (dk_at dksX6_init_3 3 rfl rfl)
theorem dX6_init_75 : decode cX6_init 75 = .ok (.bipush 25, 2) := dk_16 25 (dk_at dksX6_init_3 4 rfl rfl)
theorem dX6_init_77 : decode cX6_init 77 = .ok (.newarray .long, 2) := dk_188_11 (dk_at dksX6_init_3 6 rfl rfl)
theorem dX6_init_79 : decode cX6_init 79 = .ok (.putfield 39, 3) := dk_181 0 39 (dk_at dksX6_init_3 8 rfl rfl)
theorem dX6_init_82 : decode cX6_init 82 = .ok (.aload_n 0, 1) := dk_42 (dk_at dksX6_init_3 11 rfl rfl)
theorem dX6_init_83 : decode cX6_init 83 = .ok (.iconst 5, 1) := dk_8 (dk_at dksX6_init_3 12 rfl rfl)
theorem dX6_init_84 : decode cX6_init 84 = .ok (.newarray .long, 2) := dk_188_11 (dk_at dksX6_init_3 13 rfl rfl)
theorem dX6_init_86 : decode cX6_init 86 = .ok (.putfield 42, 3) := dk_181 0 42 (dk_at dksX6_init_3 15 rfl rfl)
theorem dX6_init_89 : decode cX6_init 89 = .ok (.aload_n 0, 1) := dk_42 (dk_at dksX6_init_3 18 rfl rfl)
theorem dX6_init_90 : decode cX6_init 90 = .ok (.bipush 10, 2) := dk_16 10 (dk_at dksX6_init_3 19 rfl rfl)
theorem dX6_init_92 : decode cX6_init 92 = .ok (.newarray .long, 2) := dk_188_11 (dk_at dksX6_init_3 21 rfl rfl)
theorem dX6_init_94 : decode cX6_init 94 = .ok (.putfield 45, 3) := dk_181 0 45 (dk_at dksX6_init_4 0 rfl rfl)
theorem dX6_init_97 : decode cX6_init 97 = .ok (.aload_n 0, 1) := dk_42 (dk_at dksX6_init_4 3 rfl rfl)
theorem dX6_init_98 : decode cX6_init 98 = .ok (.bipush 10, 2) := dk_16 10 (dk_at dksX6_init_4 4 rfl rfl)
theorem dX6_init_100 : decode cX6_init 100 = .ok (.newarray .int, 2) := dk_188_10 (dk_at dksX6_init_4 6 rfl rfl)
theorem dX6_init_102 : decode cX6_init 102 = .ok (.putfield 48, 3) := dk_181 0 48 (dk_at dksX6_init_4 8 rfl rfl)
theorem dX6_init_105 : decode cX6_init 105 = .ok (.aload_n 0, 1) := dk_42 (dk_at dksX6_init_4 11 rfl rfl)
theorem dX6_init_106 : decode cX6_init 106 = .ok (.iconst 0, 1) := dk_3 (dk_at dksX6_init_4 12 rfl rfl)
theorem dX6_init_107 : decode cX6_init 107 = .ok (.putfield 51, 3) := dk_181 0 51 (dk_at dksX6_init_4 13 rfl rfl)
theorem dX6_init_110 : decode cX6_init 110 = .ok (.return_, 1) := dk_177 (dk_at dksX6_init_4 16 rfl rfl)
abbrev cX6_thrown : ByteArray := prog_13_method_2_code
def yX6_thrown : MethodName := ⟨RX6, "thrown", "()I"⟩
theorem dX6_thrown_0 : decode cX6_thrown 0 = .ok (.aload_n 0, 1) := by decide +kernel
theorem dX6_thrown_1 : decode cX6_thrown 1 = .ok (.getfield 55, 3) := by decide +kernel
theorem dX6_thrown_4 : decode cX6_thrown 4 = .ok (.ireturn, 1) := by decide +kernel
abbrev cX6_letter : ByteArray := prog_13_method_7_code
def yX6_letter : MethodName := ⟨RX6, "letter", "(C)I"⟩
def dkwX6_letter_3 : List UInt8 := [172]
abbrev dktX6_letter_3 : List UInt8 := dkwX6_letter_3 ++ []
def dkwX6_letter_2 : List UInt8 := [27, 96, 16, 97, 100, 4, 96, 181, 0, 51, 42, 89, 180, 0, 65, 4, 96, 181, 0, 65, 42, 180, 0, 65]
abbrev dktX6_letter_2 : List UInt8 := dkwX6_letter_2 ++ dktX6_letter_3
def dkwX6_letter_1 : List UInt8 := [160, 0, 7, 5, 167, 0, 4, 3, 182, 0, 68, 154, 0, 5, 3, 172, 42, 16, 27, 42, 180, 0, 51, 104]
abbrev dktX6_letter_1 : List UInt8 := dkwX6_letter_1 ++ dktX6_letter_2
def dkwX6_letter_0 : List UInt8 := [42, 27, 16, 97, 16, 122, 184, 0, 58, 154, 0, 7, 4, 167, 0, 17, 42, 180, 0, 65, 16, 6]
abbrev dktX6_letter_0 : List UInt8 := dkwX6_letter_0 ++ dktX6_letter_1
theorem dksX6_letter_0 : cX6_letter.data.toList.drop 0 = dktX6_letter_0 := by decide +kernel
theorem dksX6_letter_1 : cX6_letter.data.toList.drop 22 = dktX6_letter_1 := dk_seg dksX6_letter_0 22 rfl rfl
theorem dksX6_letter_2 : cX6_letter.data.toList.drop 46 = dktX6_letter_2 := dk_seg dksX6_letter_1 24 rfl rfl
theorem dksX6_letter_3 : cX6_letter.data.toList.drop 70 = dktX6_letter_3 := dk_seg dksX6_letter_2 24 rfl rfl
theorem dX6_letter_0 : decode cX6_letter 0 = .ok (.aload_n 0, 1) := dk_42 (dk_at dksX6_letter_0 0 rfl rfl)
theorem dX6_letter_1 : decode cX6_letter 1 = .ok (.iload_n 1, 1) := dk_27 (dk_at dksX6_letter_0 1 rfl rfl)
theorem dX6_letter_2 : decode cX6_letter 2 = .ok (.bipush 97, 2) := dk_16 97 (dk_at dksX6_letter_0 2 rfl rfl)
theorem dX6_letter_4 : decode cX6_letter 4 = .ok (.bipush 122, 2) := dk_16 122 (dk_at dksX6_letter_0 4 rfl rfl)
theorem dX6_letter_6 : decode cX6_letter 6 = .ok (.invokestatic 58, 3) := dk_184 0 58 (dk_at dksX6_letter_0 6 rfl rfl)
theorem dX6_letter_9 : decode cX6_letter 9 = .ok (.ifCond .ne 7, 3) := dk_154 0 7 (dk_at dksX6_letter_0 9 rfl rfl)
theorem dX6_letter_12 : decode cX6_letter 12 = .ok (.iconst 1, 1) := dk_4 (dk_at dksX6_letter_0 12 rfl rfl)
theorem dX6_letter_13 : decode cX6_letter 13 = .ok (.goto 17, 3) := dk_167 0 17 (dk_at dksX6_letter_0 13 rfl rfl)
theorem dX6_letter_16 : decode cX6_letter 16 = .ok (.aload_n 0, 1) := dk_42 (dk_at dksX6_letter_0 16 rfl rfl)
theorem dX6_letter_17 : decode cX6_letter 17 = .ok (.getfield 65, 3) := dk_180 0 65 (dk_at dksX6_letter_0 17 rfl rfl)
theorem dX6_letter_20 : decode cX6_letter 20 = .ok (.bipush 6, 2) := dk_16 6 (dk_at dksX6_letter_0 20 rfl rfl)
theorem dX6_letter_22 : decode cX6_letter 22 = .ok (.if_icmp .ne 7, 3) := dk_160 0 7 (dk_at dksX6_letter_1 0 rfl rfl)
theorem dX6_letter_25 : decode cX6_letter 25 = .ok (.iconst 2, 1) := dk_5 (dk_at dksX6_letter_1 3 rfl rfl)
theorem dX6_letter_26 : decode cX6_letter 26 = .ok (.goto 4, 3) := dk_167 0 4 (dk_at dksX6_letter_1 4 rfl rfl)
theorem dX6_letter_29 : decode cX6_letter 29 = .ok (.iconst 0, 1) := dk_3 (dk_at dksX6_letter_1 7 rfl rfl)
theorem dX6_letter_30 : decode cX6_letter 30 = .ok (.invokevirtual 68, 3) := dk_182 0 68 (dk_at dksX6_letter_1 8 rfl rfl)
theorem dX6_letter_33 : decode cX6_letter 33 = .ok (.ifCond .ne 5, 3) := dk_154 0 5 (dk_at dksX6_letter_1 11 rfl rfl)
theorem dX6_letter_36 : decode cX6_letter 36 = .ok (.iconst 0, 1) := dk_3 (dk_at dksX6_letter_1 14 rfl rfl)
theorem dX6_letter_37 : decode cX6_letter 37 = .ok (.ireturn, 1) := dk_172 (dk_at dksX6_letter_1 15 rfl rfl)
theorem dX6_letter_38 : decode cX6_letter 38 = .ok (.aload_n 0, 1) := dk_42 (dk_at dksX6_letter_1 16 rfl rfl)
theorem dX6_letter_39 : decode cX6_letter 39 = .ok (.bipush 27, 2) := dk_16 27 (dk_at dksX6_letter_1 17 rfl rfl)
theorem dX6_letter_41 : decode cX6_letter 41 = .ok (.aload_n 0, 1) := dk_42 (dk_at dksX6_letter_1 19 rfl rfl)
theorem dX6_letter_42 : decode cX6_letter 42 = .ok (.getfield 51, 3) := dk_180 0 51 (dk_at dksX6_letter_1 20 rfl rfl)
theorem dX6_letter_45 : decode cX6_letter 45 = .ok (.imul, 1) := dk_104 (dk_at dksX6_letter_1 23 rfl rfl)
theorem dX6_letter_46 : decode cX6_letter 46 = .ok (.iload_n 1, 1) := dk_27 (dk_at dksX6_letter_2 0 rfl rfl)
theorem dX6_letter_47 : decode cX6_letter 47 = .ok (.iadd, 1) := dk_96 (dk_at dksX6_letter_2 1 rfl rfl)
theorem dX6_letter_48 : decode cX6_letter 48 = .ok (.bipush 97, 2) := dk_16 97 (dk_at dksX6_letter_2 2 rfl rfl)
theorem dX6_letter_50 : decode cX6_letter 50 = .ok (.isub, 1) := dk_100 (dk_at dksX6_letter_2 4 rfl rfl)
theorem dX6_letter_51 : decode cX6_letter 51 = .ok (.iconst 1, 1) := dk_4 (dk_at dksX6_letter_2 5 rfl rfl)
theorem dX6_letter_52 : decode cX6_letter 52 = .ok (.iadd, 1) := dk_96 (dk_at dksX6_letter_2 6 rfl rfl)
theorem dX6_letter_53 : decode cX6_letter 53 = .ok (.putfield 51, 3) := dk_181 0 51 (dk_at dksX6_letter_2 7 rfl rfl)
theorem dX6_letter_56 : decode cX6_letter 56 = .ok (.aload_n 0, 1) := dk_42 (dk_at dksX6_letter_2 10 rfl rfl)
theorem dX6_letter_57 : decode cX6_letter 57 = .ok (.dup, 1) := dk_89 (dk_at dksX6_letter_2 11 rfl rfl)
theorem dX6_letter_58 : decode cX6_letter 58 = .ok (.getfield 65, 3) := dk_180 0 65 (dk_at dksX6_letter_2 12 rfl rfl)
theorem dX6_letter_61 : decode cX6_letter 61 = .ok (.iconst 1, 1) := dk_4 (dk_at dksX6_letter_2 15 rfl rfl)
theorem dX6_letter_62 : decode cX6_letter 62 = .ok (.iadd, 1) := dk_96 (dk_at dksX6_letter_2 16 rfl rfl)
theorem dX6_letter_63 : decode cX6_letter 63 = .ok (.putfield 65, 3) := dk_181 0 65 (dk_at dksX6_letter_2 17 rfl rfl)
theorem dX6_letter_66 : decode cX6_letter 66 = .ok (.aload_n 0, 1) := dk_42 (dk_at dksX6_letter_2 20 rfl rfl)
theorem dX6_letter_67 : decode cX6_letter 67 = .ok (.getfield 65, 3) := dk_180 0 65 (dk_at dksX6_letter_2 21 rfl rfl)
theorem dX6_letter_70 : decode cX6_letter 70 = .ok (.ireturn, 1) := dk_172 (dk_at dksX6_letter_3 0 rfl rfl)
abbrev cX6_isIn : ByteArray := prog_13_method_4_code
def yX6_isIn : MethodName := ⟨RX6, "isIn", "(III)Z"⟩
def dkwX6_isIn_0 : List UInt8 := [26, 27, 161, 0, 12, 26, 28, 163, 0, 7, 4, 167, 0, 4, 3, 172]
abbrev dktX6_isIn_0 : List UInt8 := dkwX6_isIn_0 ++ []
theorem dksX6_isIn_0 : cX6_isIn.data.toList.drop 0 = dktX6_isIn_0 := by decide +kernel
theorem dX6_isIn_0 : decode cX6_isIn 0 = .ok (.iload_n 0, 1) := dk_26 (dk_at dksX6_isIn_0 0 rfl rfl)
theorem dX6_isIn_1 : decode cX6_isIn 1 = .ok (.iload_n 1, 1) := dk_27 (dk_at dksX6_isIn_0 1 rfl rfl)
theorem dX6_isIn_2 : decode cX6_isIn 2 = .ok (.if_icmp .lt 12, 3) := dk_161 0 12 (dk_at dksX6_isIn_0 2 rfl rfl)
theorem dX6_isIn_5 : decode cX6_isIn 5 = .ok (.iload_n 0, 1) := dk_26 (dk_at dksX6_isIn_0 5 rfl rfl)
theorem dX6_isIn_6 : decode cX6_isIn 6 = .ok (.iload_n 2, 1) := dk_28 (dk_at dksX6_isIn_0 6 rfl rfl)
theorem dX6_isIn_7 : decode cX6_isIn 7 = .ok (.if_icmp .gt 7, 3) := dk_163 0 7 (dk_at dksX6_isIn_0 7 rfl rfl)
theorem dX6_isIn_10 : decode cX6_isIn 10 = .ok (.iconst 1, 1) := dk_4 (dk_at dksX6_isIn_0 10 rfl rfl)
theorem dX6_isIn_11 : decode cX6_isIn 11 = .ok (.goto 4, 3) := dk_167 0 4 (dk_at dksX6_isIn_0 11 rfl rfl)
theorem dX6_isIn_14 : decode cX6_isIn 14 = .ok (.iconst 0, 1) := dk_3 (dk_at dksX6_isIn_0 14 rfl rfl)
theorem dX6_isIn_15 : decode cX6_isIn 15 = .ok (.ireturn, 1) := dk_172 (dk_at dksX6_isIn_0 15 rfl rfl)
abbrev cX6_holds : ByteArray := prog_13_method_3_code
def yX6_holds : MethodName := ⟨RX6, "holds", "(I)Z"⟩
def dkwX6_holds_0 : List UInt8 := [42, 27, 181, 0, 55, 27, 154, 0, 7, 4, 167, 0, 4, 3, 172]
abbrev dktX6_holds_0 : List UInt8 := dkwX6_holds_0 ++ []
theorem dksX6_holds_0 : cX6_holds.data.toList.drop 0 = dktX6_holds_0 := by decide +kernel
theorem dX6_holds_0 : decode cX6_holds 0 = .ok (.aload_n 0, 1) := dk_42 (dk_at dksX6_holds_0 0 rfl rfl)
theorem dX6_holds_1 : decode cX6_holds 1 = .ok (.iload_n 1, 1) := dk_27 (dk_at dksX6_holds_0 1 rfl rfl)
theorem dX6_holds_2 : decode cX6_holds 2 = .ok (.putfield 55, 3) := dk_181 0 55 (dk_at dksX6_holds_0 2 rfl rfl)
theorem dX6_holds_5 : decode cX6_holds 5 = .ok (.iload_n 1, 1) := dk_27 (dk_at dksX6_holds_0 5 rfl rfl)
theorem dX6_holds_6 : decode cX6_holds 6 = .ok (.ifCond .ne 7, 3) := dk_154 0 7 (dk_at dksX6_holds_0 6 rfl rfl)
theorem dX6_holds_9 : decode cX6_holds 9 = .ok (.iconst 1, 1) := dk_4 (dk_at dksX6_holds_0 9 rfl rfl)
theorem dX6_holds_10 : decode cX6_holds 10 = .ok (.goto 4, 3) := dk_167 0 4 (dk_at dksX6_holds_0 10 rfl rfl)
theorem dX6_holds_13 : decode cX6_holds 13 = .ok (.iconst 0, 1) := dk_3 (dk_at dksX6_holds_0 13 rfl rfl)
theorem dX6_holds_14 : decode cX6_holds 14 = .ok (.ireturn, 1) := dk_172 (dk_at dksX6_holds_0 14 rfl rfl)
abbrev cX6_tag : ByteArray := prog_13_method_9_code
def yX6_tag : MethodName := ⟨RX6, "tag", "(I)I"⟩
def dkwX6_tag_3 : List UInt8 := [96, 181, 0, 75, 42, 180, 0, 75, 172]
abbrev dktX6_tag_3 : List UInt8 := dkwX6_tag_3 ++ []
def dkwX6_tag_2 : List UInt8 := [180, 0, 75, 42, 182, 0, 78, 79, 42, 180, 0, 13, 42, 180, 0, 75, 27, 79, 42, 89, 180, 0, 75, 4]
abbrev dktX6_tag_2 : List UInt8 := dkwX6_tag_2 ++ dktX6_tag_3
def dkwX6_tag_1 : List UInt8 := [16, 6, 160, 0, 7, 5, 167, 0, 4, 3, 182, 0, 68, 154, 0, 5, 3, 172, 42, 180, 0, 7, 42]
abbrev dktX6_tag_1 : List UInt8 := dkwX6_tag_1 ++ dktX6_tag_2
def dkwX6_tag_0 : List UInt8 := [42, 27, 184, 0, 72, 154, 0, 7, 4, 167, 0, 24, 42, 180, 0, 65, 153, 0, 12, 42, 180, 0, 75]
abbrev dktX6_tag_0 : List UInt8 := dkwX6_tag_0 ++ dktX6_tag_1
theorem dksX6_tag_0 : cX6_tag.data.toList.drop 0 = dktX6_tag_0 := by decide +kernel
theorem dksX6_tag_1 : cX6_tag.data.toList.drop 23 = dktX6_tag_1 := dk_seg dksX6_tag_0 23 rfl rfl
theorem dksX6_tag_2 : cX6_tag.data.toList.drop 46 = dktX6_tag_2 := dk_seg dksX6_tag_1 23 rfl rfl
theorem dksX6_tag_3 : cX6_tag.data.toList.drop 70 = dktX6_tag_3 := dk_seg dksX6_tag_2 24 rfl rfl
theorem dX6_tag_0 : decode cX6_tag 0 = .ok (.aload_n 0, 1) := dk_42 (dk_at dksX6_tag_0 0 rfl rfl)
theorem dX6_tag_1 : decode cX6_tag 1 = .ok (.iload_n 1, 1) := dk_27 (dk_at dksX6_tag_0 1 rfl rfl)
theorem dX6_tag_2 : decode cX6_tag 2 = .ok (.invokestatic 72, 3) := dk_184 0 72 (dk_at dksX6_tag_0 2 rfl rfl)
theorem dX6_tag_5 : decode cX6_tag 5 = .ok (.ifCond .ne 7, 3) := dk_154 0 7 (dk_at dksX6_tag_0 5 rfl rfl)
theorem dX6_tag_8 : decode cX6_tag 8 = .ok (.iconst 1, 1) := dk_4 (dk_at dksX6_tag_0 8 rfl rfl)
theorem dX6_tag_9 : decode cX6_tag 9 = .ok (.goto 24, 3) := dk_167 0 24 (dk_at dksX6_tag_0 9 rfl rfl)
theorem dX6_tag_12 : decode cX6_tag 12 = .ok (.aload_n 0, 1) := dk_42 (dk_at dksX6_tag_0 12 rfl rfl)
theorem dX6_tag_13 : decode cX6_tag 13 = .ok (.getfield 65, 3) := dk_180 0 65 (dk_at dksX6_tag_0 13 rfl rfl)
theorem dX6_tag_16 : decode cX6_tag 16 = .ok (.ifCond .eq 12, 3) := dk_153 0 12 (dk_at dksX6_tag_0 16 rfl rfl)
theorem dX6_tag_19 : decode cX6_tag 19 = .ok (.aload_n 0, 1) := dk_42 (dk_at dksX6_tag_0 19 rfl rfl)
theorem dX6_tag_20 : decode cX6_tag 20 = .ok (.getfield 75, 3) := dk_180 0 75 (dk_at dksX6_tag_0 20 rfl rfl)
theorem dX6_tag_23 : decode cX6_tag 23 = .ok (.bipush 6, 2) := dk_16 6 (dk_at dksX6_tag_1 0 rfl rfl)
theorem dX6_tag_25 : decode cX6_tag 25 = .ok (.if_icmp .ne 7, 3) := dk_160 0 7 (dk_at dksX6_tag_1 2 rfl rfl)
theorem dX6_tag_28 : decode cX6_tag 28 = .ok (.iconst 2, 1) := dk_5 (dk_at dksX6_tag_1 5 rfl rfl)
theorem dX6_tag_29 : decode cX6_tag 29 = .ok (.goto 4, 3) := dk_167 0 4 (dk_at dksX6_tag_1 6 rfl rfl)
theorem dX6_tag_32 : decode cX6_tag 32 = .ok (.iconst 0, 1) := dk_3 (dk_at dksX6_tag_1 9 rfl rfl)
theorem dX6_tag_33 : decode cX6_tag 33 = .ok (.invokevirtual 68, 3) := dk_182 0 68 (dk_at dksX6_tag_1 10 rfl rfl)
theorem dX6_tag_36 : decode cX6_tag 36 = .ok (.ifCond .ne 5, 3) := dk_154 0 5 (dk_at dksX6_tag_1 13 rfl rfl)
theorem dX6_tag_39 : decode cX6_tag 39 = .ok (.iconst 0, 1) := dk_3 (dk_at dksX6_tag_1 16 rfl rfl)
theorem dX6_tag_40 : decode cX6_tag 40 = .ok (.ireturn, 1) := dk_172 (dk_at dksX6_tag_1 17 rfl rfl)
theorem dX6_tag_41 : decode cX6_tag 41 = .ok (.aload_n 0, 1) := dk_42 (dk_at dksX6_tag_1 18 rfl rfl)
theorem dX6_tag_42 : decode cX6_tag 42 = .ok (.getfield 7, 3) := dk_180 0 7 (dk_at dksX6_tag_1 19 rfl rfl)
theorem dX6_tag_45 : decode cX6_tag 45 = .ok (.aload_n 0, 1) := dk_42 (dk_at dksX6_tag_1 22 rfl rfl)
theorem dX6_tag_46 : decode cX6_tag 46 = .ok (.getfield 75, 3) := dk_180 0 75 (dk_at dksX6_tag_2 0 rfl rfl)
theorem dX6_tag_49 : decode cX6_tag 49 = .ok (.aload_n 0, 1) := dk_42 (dk_at dksX6_tag_2 3 rfl rfl)
theorem dX6_tag_50 : decode cX6_tag 50 = .ok (.invokevirtual 78, 3) := dk_182 0 78 (dk_at dksX6_tag_2 4 rfl rfl)
theorem dX6_tag_53 : decode cX6_tag 53 = .ok (.iastore, 1) := dk_79 (dk_at dksX6_tag_2 7 rfl rfl)
theorem dX6_tag_54 : decode cX6_tag 54 = .ok (.aload_n 0, 1) := dk_42 (dk_at dksX6_tag_2 8 rfl rfl)
theorem dX6_tag_55 : decode cX6_tag 55 = .ok (.getfield 13, 3) := dk_180 0 13 (dk_at dksX6_tag_2 9 rfl rfl)
theorem dX6_tag_58 : decode cX6_tag 58 = .ok (.aload_n 0, 1) := dk_42 (dk_at dksX6_tag_2 12 rfl rfl)
theorem dX6_tag_59 : decode cX6_tag 59 = .ok (.getfield 75, 3) := dk_180 0 75 (dk_at dksX6_tag_2 13 rfl rfl)
theorem dX6_tag_62 : decode cX6_tag 62 = .ok (.iload_n 1, 1) := dk_27 (dk_at dksX6_tag_2 16 rfl rfl)
theorem dX6_tag_63 : decode cX6_tag 63 = .ok (.iastore, 1) := dk_79 (dk_at dksX6_tag_2 17 rfl rfl)
theorem dX6_tag_64 : decode cX6_tag 64 = .ok (.aload_n 0, 1) := dk_42 (dk_at dksX6_tag_2 18 rfl rfl)
theorem dX6_tag_65 : decode cX6_tag 65 = .ok (.dup, 1) := dk_89 (dk_at dksX6_tag_2 19 rfl rfl)
theorem dX6_tag_66 : decode cX6_tag 66 = .ok (.getfield 75, 3) := dk_180 0 75 (dk_at dksX6_tag_2 20 rfl rfl)
theorem dX6_tag_69 : decode cX6_tag 69 = .ok (.iconst 1, 1) := dk_4 (dk_at dksX6_tag_2 23 rfl rfl)
theorem dX6_tag_70 : decode cX6_tag 70 = .ok (.iadd, 1) := dk_96 (dk_at dksX6_tag_3 0 rfl rfl)
theorem dX6_tag_71 : decode cX6_tag 71 = .ok (.putfield 75, 3) := dk_181 0 75 (dk_at dksX6_tag_3 1 rfl rfl)
theorem dX6_tag_74 : decode cX6_tag 74 = .ok (.aload_n 0, 1) := dk_42 (dk_at dksX6_tag_3 4 rfl rfl)
theorem dX6_tag_75 : decode cX6_tag 75 = .ok (.getfield 75, 3) := dk_180 0 75 (dk_at dksX6_tag_3 5 rfl rfl)
theorem dX6_tag_78 : decode cX6_tag 78 = .ok (.ireturn, 1) := dk_172 (dk_at dksX6_tag_3 8 rfl rfl)
abbrev cX6_isTag : ByteArray := prog_13_method_5_code
def yX6_isTag : MethodName := ⟨RX6, "isTag", "(I)Z"⟩
def dkwX6_isTag_0 : List UInt8 := [26, 3, 7, 184, 0, 58, 172]
abbrev dktX6_isTag_0 : List UInt8 := dkwX6_isTag_0 ++ []
theorem dksX6_isTag_0 : cX6_isTag.data.toList.drop 0 = dktX6_isTag_0 := by decide +kernel
theorem dX6_isTag_0 : decode cX6_isTag 0 = .ok (.iload_n 0, 1) := dk_26 (dk_at dksX6_isTag_0 0 rfl rfl)
theorem dX6_isTag_1 : decode cX6_isTag 1 = .ok (.iconst 0, 1) := dk_3 (dk_at dksX6_isTag_0 1 rfl rfl)
theorem dX6_isTag_2 : decode cX6_isTag 2 = .ok (.iconst 4, 1) := dk_7 (dk_at dksX6_isTag_0 2 rfl rfl)
theorem dX6_isTag_3 : decode cX6_isTag 3 = .ok (.invokestatic 58, 3) := dk_184 0 58 (dk_at dksX6_isTag_0 3 rfl rfl)
theorem dX6_isTag_6 : decode cX6_isTag 6 = .ok (.ireturn, 1) := dk_172 (dk_at dksX6_isTag_0 6 rfl rfl)
abbrev cX6_takes : ByteArray := prog_13_method_8_code
def yX6_takes : MethodName := ⟨RX6, "takes", "()I"⟩
def dkwX6_takes_0 : List UInt8 := [42, 180, 0, 51, 60, 42, 3, 181, 0, 51, 42, 3, 181, 0, 65, 27, 172]
abbrev dktX6_takes_0 : List UInt8 := dkwX6_takes_0 ++ []
theorem dksX6_takes_0 : cX6_takes.data.toList.drop 0 = dktX6_takes_0 := by decide +kernel
theorem dX6_takes_0 : decode cX6_takes 0 = .ok (.aload_n 0, 1) := dk_42 (dk_at dksX6_takes_0 0 rfl rfl)
theorem dX6_takes_1 : decode cX6_takes 1 = .ok (.getfield 51, 3) := dk_180 0 51 (dk_at dksX6_takes_0 1 rfl rfl)
theorem dX6_takes_4 : decode cX6_takes 4 = .ok (.istore_n 1, 1) := dk_60 (dk_at dksX6_takes_0 4 rfl rfl)
theorem dX6_takes_5 : decode cX6_takes 5 = .ok (.aload_n 0, 1) := dk_42 (dk_at dksX6_takes_0 5 rfl rfl)
theorem dX6_takes_6 : decode cX6_takes 6 = .ok (.iconst 0, 1) := dk_3 (dk_at dksX6_takes_0 6 rfl rfl)
theorem dX6_takes_7 : decode cX6_takes 7 = .ok (.putfield 51, 3) := dk_181 0 51 (dk_at dksX6_takes_0 7 rfl rfl)
theorem dX6_takes_10 : decode cX6_takes 10 = .ok (.aload_n 0, 1) := dk_42 (dk_at dksX6_takes_0 10 rfl rfl)
theorem dX6_takes_11 : decode cX6_takes 11 = .ok (.iconst 0, 1) := dk_3 (dk_at dksX6_takes_0 11 rfl rfl)
theorem dX6_takes_12 : decode cX6_takes 12 = .ok (.putfield 65, 3) := dk_181 0 65 (dk_at dksX6_takes_0 12 rfl rfl)
theorem dX6_takes_15 : decode cX6_takes 15 = .ok (.iload_n 1, 1) := dk_27 (dk_at dksX6_takes_0 15 rfl rfl)
theorem dX6_takes_16 : decode cX6_takes 16 = .ok (.ireturn, 1) := dk_172 (dk_at dksX6_takes_0 16 rfl rfl)
abbrev cX6_add : ByteArray := prog_13_method_10_code
def yX6_add : MethodName := ⟨RX6, "add", "()I"⟩
def dkwX6_add_5 : List UInt8 := [180, 0, 82, 4, 96, 181, 0, 82, 42, 180, 0, 82, 4, 100, 172]
abbrev dktX6_add_5 : List UInt8 := dkwX6_add_5 ++ []
def dkwX6_add_4 : List UInt8 := [42, 180, 0, 75, 79, 42, 180, 0, 25, 42, 180, 0, 82, 4, 84, 42, 3, 181, 0, 75, 42, 89]
abbrev dktX6_add_4 : List UInt8 := dkwX6_add_4 ++ dktX6_add_5
def dkwX6_add_3 : List UInt8 := [104, 27, 96, 42, 180, 0, 13, 27, 46, 79, 132, 1, 1, 167, 255, 205, 42, 180, 0, 22, 42, 180, 0, 82]
abbrev dktX6_add_3 : List UInt8 := dkwX6_add_3 ++ dktX6_add_4
def dkwX6_add_2 : List UInt8 := [42, 180, 0, 82, 104, 27, 96, 42, 180, 0, 7, 27, 46, 79, 42, 180, 0, 19, 16, 6, 42, 180, 0, 82]
abbrev dktX6_add_2 : List UInt8 := dkwX6_add_2 ++ dktX6_add_3
def dkwX6_add_1 : List UInt8 := [182, 0, 68, 154, 0, 5, 3, 172, 3, 60, 27, 42, 180, 0, 75, 162, 0, 49, 42, 180, 0, 16, 16, 6]
abbrev dktX6_add_1 : List UInt8 := dkwX6_add_1 ++ dktX6_add_2
def dkwX6_add_0 : List UInt8 := [42, 42, 180, 0, 75, 153, 0, 12, 42, 180, 0, 82, 16, 20, 160, 0, 7, 4, 167, 0, 4, 3]
abbrev dktX6_add_0 : List UInt8 := dkwX6_add_0 ++ dktX6_add_1
theorem dksX6_add_0 : cX6_add.data.toList.drop 0 = dktX6_add_0 := by decide +kernel
theorem dksX6_add_1 : cX6_add.data.toList.drop 22 = dktX6_add_1 := dk_seg dksX6_add_0 22 rfl rfl
theorem dksX6_add_2 : cX6_add.data.toList.drop 46 = dktX6_add_2 := dk_seg dksX6_add_1 24 rfl rfl
theorem dksX6_add_3 : cX6_add.data.toList.drop 70 = dktX6_add_3 := dk_seg dksX6_add_2 24 rfl rfl
theorem dksX6_add_4 : cX6_add.data.toList.drop 94 = dktX6_add_4 := dk_seg dksX6_add_3 24 rfl rfl
theorem dksX6_add_5 : cX6_add.data.toList.drop 116 = dktX6_add_5 := dk_seg dksX6_add_4 22 rfl rfl
theorem dX6_add_0 : decode cX6_add 0 = .ok (.aload_n 0, 1) := dk_42 (dk_at dksX6_add_0 0 rfl rfl)
theorem dX6_add_1 : decode cX6_add 1 = .ok (.aload_n 0, 1) := dk_42 (dk_at dksX6_add_0 1 rfl rfl)
theorem dX6_add_2 : decode cX6_add 2 = .ok (.getfield 75, 3) := dk_180 0 75 (dk_at dksX6_add_0 2 rfl rfl)
theorem dX6_add_5 : decode cX6_add 5 = .ok (.ifCond .eq 12, 3) := dk_153 0 12 (dk_at dksX6_add_0 5 rfl rfl)
theorem dX6_add_8 : decode cX6_add 8 = .ok (.aload_n 0, 1) := dk_42 (dk_at dksX6_add_0 8 rfl rfl)
theorem dX6_add_9 : decode cX6_add 9 = .ok (.getfield 82, 3) := dk_180 0 82 (dk_at dksX6_add_0 9 rfl rfl)
theorem dX6_add_12 : decode cX6_add 12 = .ok (.bipush 20, 2) := dk_16 20 (dk_at dksX6_add_0 12 rfl rfl)
theorem dX6_add_14 : decode cX6_add 14 = .ok (.if_icmp .ne 7, 3) := dk_160 0 7 (dk_at dksX6_add_0 14 rfl rfl)
theorem dX6_add_17 : decode cX6_add 17 = .ok (.iconst 1, 1) := dk_4 (dk_at dksX6_add_0 17 rfl rfl)
theorem dX6_add_18 : decode cX6_add 18 = .ok (.goto 4, 3) := dk_167 0 4 (dk_at dksX6_add_0 18 rfl rfl)
theorem dX6_add_21 : decode cX6_add 21 = .ok (.iconst 0, 1) := dk_3 (dk_at dksX6_add_0 21 rfl rfl)
theorem dX6_add_22 : decode cX6_add 22 = .ok (.invokevirtual 68, 3) := dk_182 0 68 (dk_at dksX6_add_1 0 rfl rfl)
theorem dX6_add_25 : decode cX6_add 25 = .ok (.ifCond .ne 5, 3) := dk_154 0 5 (dk_at dksX6_add_1 3 rfl rfl)
theorem dX6_add_28 : decode cX6_add 28 = .ok (.iconst 0, 1) := dk_3 (dk_at dksX6_add_1 6 rfl rfl)
theorem dX6_add_29 : decode cX6_add 29 = .ok (.ireturn, 1) := dk_172 (dk_at dksX6_add_1 7 rfl rfl)
theorem dX6_add_30 : decode cX6_add 30 = .ok (.iconst 0, 1) := dk_3 (dk_at dksX6_add_1 8 rfl rfl)
theorem dX6_add_31 : decode cX6_add 31 = .ok (.istore_n 1, 1) := dk_60 (dk_at dksX6_add_1 9 rfl rfl)
theorem dX6_add_32 : decode cX6_add 32 = .ok (.iload_n 1, 1) := dk_27 (dk_at dksX6_add_1 10 rfl rfl)
theorem dX6_add_33 : decode cX6_add 33 = .ok (.aload_n 0, 1) := dk_42 (dk_at dksX6_add_1 11 rfl rfl)
theorem dX6_add_34 : decode cX6_add 34 = .ok (.getfield 75, 3) := dk_180 0 75 (dk_at dksX6_add_1 12 rfl rfl)
theorem dX6_add_37 : decode cX6_add 37 = .ok (.if_icmp .ge 49, 3) := dk_162 0 49 (dk_at dksX6_add_1 15 rfl rfl)
theorem dX6_add_40 : decode cX6_add 40 = .ok (.aload_n 0, 1) := dk_42 (dk_at dksX6_add_1 18 rfl rfl)
theorem dX6_add_41 : decode cX6_add 41 = .ok (.getfield 16, 3) := dk_180 0 16 (dk_at dksX6_add_1 19 rfl rfl)
theorem dX6_add_44 : decode cX6_add 44 = .ok (.bipush 6, 2) := dk_16 6 (dk_at dksX6_add_1 22 rfl rfl)
theorem dX6_add_46 : decode cX6_add 46 = .ok (.aload_n 0, 1) := dk_42 (dk_at dksX6_add_2 0 rfl rfl)
theorem dX6_add_47 : decode cX6_add 47 = .ok (.getfield 82, 3) := dk_180 0 82 (dk_at dksX6_add_2 1 rfl rfl)
theorem dX6_add_50 : decode cX6_add 50 = .ok (.imul, 1) := dk_104 (dk_at dksX6_add_2 4 rfl rfl)
theorem dX6_add_51 : decode cX6_add 51 = .ok (.iload_n 1, 1) := dk_27 (dk_at dksX6_add_2 5 rfl rfl)
theorem dX6_add_52 : decode cX6_add 52 = .ok (.iadd, 1) := dk_96 (dk_at dksX6_add_2 6 rfl rfl)
theorem dX6_add_53 : decode cX6_add 53 = .ok (.aload_n 0, 1) := dk_42 (dk_at dksX6_add_2 7 rfl rfl)
theorem dX6_add_54 : decode cX6_add 54 = .ok (.getfield 7, 3) := dk_180 0 7 (dk_at dksX6_add_2 8 rfl rfl)
theorem dX6_add_57 : decode cX6_add 57 = .ok (.iload_n 1, 1) := dk_27 (dk_at dksX6_add_2 11 rfl rfl)
theorem dX6_add_58 : decode cX6_add 58 = .ok (.iaload, 1) := dk_46 (dk_at dksX6_add_2 12 rfl rfl)
theorem dX6_add_59 : decode cX6_add 59 = .ok (.iastore, 1) := dk_79 (dk_at dksX6_add_2 13 rfl rfl)
theorem dX6_add_60 : decode cX6_add 60 = .ok (.aload_n 0, 1) := dk_42 (dk_at dksX6_add_2 14 rfl rfl)
theorem dX6_add_61 : decode cX6_add 61 = .ok (.getfield 19, 3) := dk_180 0 19 (dk_at dksX6_add_2 15 rfl rfl)
theorem dX6_add_64 : decode cX6_add 64 = .ok (.bipush 6, 2) := dk_16 6 (dk_at dksX6_add_2 18 rfl rfl)
theorem dX6_add_66 : decode cX6_add 66 = .ok (.aload_n 0, 1) := dk_42 (dk_at dksX6_add_2 20 rfl rfl)
theorem dX6_add_67 : decode cX6_add 67 = .ok (.getfield 82, 3) := dk_180 0 82 (dk_at dksX6_add_2 21 rfl rfl)
theorem dX6_add_70 : decode cX6_add 70 = .ok (.imul, 1) := dk_104 (dk_at dksX6_add_3 0 rfl rfl)
theorem dX6_add_71 : decode cX6_add 71 = .ok (.iload_n 1, 1) := dk_27 (dk_at dksX6_add_3 1 rfl rfl)
theorem dX6_add_72 : decode cX6_add 72 = .ok (.iadd, 1) := dk_96 (dk_at dksX6_add_3 2 rfl rfl)
theorem dX6_add_73 : decode cX6_add 73 = .ok (.aload_n 0, 1) := dk_42 (dk_at dksX6_add_3 3 rfl rfl)
theorem dX6_add_74 : decode cX6_add 74 = .ok (.getfield 13, 3) := dk_180 0 13 (dk_at dksX6_add_3 4 rfl rfl)
theorem dX6_add_77 : decode cX6_add 77 = .ok (.iload_n 1, 1) := dk_27 (dk_at dksX6_add_3 7 rfl rfl)
theorem dX6_add_78 : decode cX6_add 78 = .ok (.iaload, 1) := dk_46 (dk_at dksX6_add_3 8 rfl rfl)
theorem dX6_add_79 : decode cX6_add 79 = .ok (.iastore, 1) := dk_79 (dk_at dksX6_add_3 9 rfl rfl)
theorem dX6_add_80 : decode cX6_add 80 = .ok (.iinc 1 1, 3) := dk_132 1 1 (dk_at dksX6_add_3 10 rfl rfl)
theorem dX6_add_83 : decode cX6_add 83 = .ok (.goto (-51), 3) := dk_167 255 205 (dk_at dksX6_add_3 13 rfl rfl)
theorem dX6_add_86 : decode cX6_add 86 = .ok (.aload_n 0, 1) := dk_42 (dk_at dksX6_add_3 16 rfl rfl)
theorem dX6_add_87 : decode cX6_add 87 = .ok (.getfield 22, 3) := dk_180 0 22 (dk_at dksX6_add_3 17 rfl rfl)
theorem dX6_add_90 : decode cX6_add 90 = .ok (.aload_n 0, 1) := dk_42 (dk_at dksX6_add_3 20 rfl rfl)
theorem dX6_add_91 : decode cX6_add 91 = .ok (.getfield 82, 3) := dk_180 0 82 (dk_at dksX6_add_3 21 rfl rfl)
theorem dX6_add_94 : decode cX6_add 94 = .ok (.aload_n 0, 1) := dk_42 (dk_at dksX6_add_4 0 rfl rfl)
theorem dX6_add_95 : decode cX6_add 95 = .ok (.getfield 75, 3) := dk_180 0 75 (dk_at dksX6_add_4 1 rfl rfl)
theorem dX6_add_98 : decode cX6_add 98 = .ok (.iastore, 1) := dk_79 (dk_at dksX6_add_4 4 rfl rfl)
theorem dX6_add_99 : decode cX6_add 99 = .ok (.aload_n 0, 1) := dk_42 (dk_at dksX6_add_4 5 rfl rfl)
theorem dX6_add_100 : decode cX6_add 100 = .ok (.getfield 25, 3) := dk_180 0 25 (dk_at dksX6_add_4 6 rfl rfl)
theorem dX6_add_103 : decode cX6_add 103 = .ok (.aload_n 0, 1) := dk_42 (dk_at dksX6_add_4 9 rfl rfl)
theorem dX6_add_104 : decode cX6_add 104 = .ok (.getfield 82, 3) := dk_180 0 82 (dk_at dksX6_add_4 10 rfl rfl)
theorem dX6_add_107 : decode cX6_add 107 = .ok (.iconst 1, 1) := dk_4 (dk_at dksX6_add_4 13 rfl rfl)
theorem dX6_add_108 : decode cX6_add 108 = .ok (.bastore, 1) := dk_84 (dk_at dksX6_add_4 14 rfl rfl)
theorem dX6_add_109 : decode cX6_add 109 = .ok (.aload_n 0, 1) := dk_42 (dk_at dksX6_add_4 15 rfl rfl)
theorem dX6_add_110 : decode cX6_add 110 = .ok (.iconst 0, 1) := dk_3 (dk_at dksX6_add_4 16 rfl rfl)
theorem dX6_add_111 : decode cX6_add 111 = .ok (.putfield 75, 3) := dk_181 0 75 (dk_at dksX6_add_4 17 rfl rfl)
theorem dX6_add_114 : decode cX6_add 114 = .ok (.aload_n 0, 1) := dk_42 (dk_at dksX6_add_4 20 rfl rfl)
theorem dX6_add_115 : decode cX6_add 115 = .ok (.dup, 1) := dk_89 (dk_at dksX6_add_4 21 rfl rfl)
theorem dX6_add_116 : decode cX6_add 116 = .ok (.getfield 82, 3) := dk_180 0 82 (dk_at dksX6_add_5 0 rfl rfl)
theorem dX6_add_119 : decode cX6_add 119 = .ok (.iconst 1, 1) := dk_4 (dk_at dksX6_add_5 3 rfl rfl)
theorem dX6_add_120 : decode cX6_add 120 = .ok (.iadd, 1) := dk_96 (dk_at dksX6_add_5 4 rfl rfl)
theorem dX6_add_121 : decode cX6_add 121 = .ok (.putfield 82, 3) := dk_181 0 82 (dk_at dksX6_add_5 5 rfl rfl)
theorem dX6_add_124 : decode cX6_add 124 = .ok (.aload_n 0, 1) := dk_42 (dk_at dksX6_add_5 8 rfl rfl)
theorem dX6_add_125 : decode cX6_add 125 = .ok (.getfield 82, 3) := dk_180 0 82 (dk_at dksX6_add_5 9 rfl rfl)
theorem dX6_add_128 : decode cX6_add 128 = .ok (.iconst 1, 1) := dk_4 (dk_at dksX6_add_5 12 rfl rfl)
theorem dX6_add_129 : decode cX6_add 129 = .ok (.isub, 1) := dk_100 (dk_at dksX6_add_5 13 rfl rfl)
theorem dX6_add_130 : decode cX6_add 130 = .ok (.ireturn, 1) := dk_172 (dk_at dksX6_add_5 14 rfl rfl)
abbrev cX6_text : ByteArray := prog_13_method_11_code
def yX6_text : MethodName := ⟨RX6, "text", "(IZ)Z"⟩
def dkwX6_text_1 : List UInt8 := [154, 0, 5, 3, 172, 42, 180, 0, 25, 27, 51, 62, 42, 180, 0, 25, 27, 28, 84, 29, 172]
abbrev dktX6_text_1 : List UInt8 := dkwX6_text_1 ++ []
def dkwX6_text_0 : List UInt8 := [42, 27, 3, 42, 180, 0, 82, 4, 100, 184, 0, 58, 153, 0, 7, 3, 167, 0, 4, 4, 182, 0, 68]
abbrev dktX6_text_0 : List UInt8 := dkwX6_text_0 ++ dktX6_text_1
theorem dksX6_text_0 : cX6_text.data.toList.drop 0 = dktX6_text_0 := by decide +kernel
theorem dksX6_text_1 : cX6_text.data.toList.drop 23 = dktX6_text_1 := dk_seg dksX6_text_0 23 rfl rfl
theorem dX6_text_0 : decode cX6_text 0 = .ok (.aload_n 0, 1) := dk_42 (dk_at dksX6_text_0 0 rfl rfl)
theorem dX6_text_1 : decode cX6_text 1 = .ok (.iload_n 1, 1) := dk_27 (dk_at dksX6_text_0 1 rfl rfl)
theorem dX6_text_2 : decode cX6_text 2 = .ok (.iconst 0, 1) := dk_3 (dk_at dksX6_text_0 2 rfl rfl)
theorem dX6_text_3 : decode cX6_text 3 = .ok (.aload_n 0, 1) := dk_42 (dk_at dksX6_text_0 3 rfl rfl)
theorem dX6_text_4 : decode cX6_text 4 = .ok (.getfield 82, 3) := dk_180 0 82 (dk_at dksX6_text_0 4 rfl rfl)
theorem dX6_text_7 : decode cX6_text 7 = .ok (.iconst 1, 1) := dk_4 (dk_at dksX6_text_0 7 rfl rfl)
theorem dX6_text_8 : decode cX6_text 8 = .ok (.isub, 1) := dk_100 (dk_at dksX6_text_0 8 rfl rfl)
theorem dX6_text_9 : decode cX6_text 9 = .ok (.invokestatic 58, 3) := dk_184 0 58 (dk_at dksX6_text_0 9 rfl rfl)
theorem dX6_text_12 : decode cX6_text 12 = .ok (.ifCond .eq 7, 3) := dk_153 0 7 (dk_at dksX6_text_0 12 rfl rfl)
theorem dX6_text_15 : decode cX6_text 15 = .ok (.iconst 0, 1) := dk_3 (dk_at dksX6_text_0 15 rfl rfl)
theorem dX6_text_16 : decode cX6_text 16 = .ok (.goto 4, 3) := dk_167 0 4 (dk_at dksX6_text_0 16 rfl rfl)
theorem dX6_text_19 : decode cX6_text 19 = .ok (.iconst 1, 1) := dk_4 (dk_at dksX6_text_0 19 rfl rfl)
theorem dX6_text_20 : decode cX6_text 20 = .ok (.invokevirtual 68, 3) := dk_182 0 68 (dk_at dksX6_text_0 20 rfl rfl)
theorem dX6_text_23 : decode cX6_text 23 = .ok (.ifCond .ne 5, 3) := dk_154 0 5 (dk_at dksX6_text_1 0 rfl rfl)
theorem dX6_text_26 : decode cX6_text 26 = .ok (.iconst 0, 1) := dk_3 (dk_at dksX6_text_1 3 rfl rfl)
theorem dX6_text_27 : decode cX6_text 27 = .ok (.ireturn, 1) := dk_172 (dk_at dksX6_text_1 4 rfl rfl)
theorem dX6_text_28 : decode cX6_text 28 = .ok (.aload_n 0, 1) := dk_42 (dk_at dksX6_text_1 5 rfl rfl)
theorem dX6_text_29 : decode cX6_text 29 = .ok (.getfield 25, 3) := dk_180 0 25 (dk_at dksX6_text_1 6 rfl rfl)
theorem dX6_text_32 : decode cX6_text 32 = .ok (.iload_n 1, 1) := dk_27 (dk_at dksX6_text_1 9 rfl rfl)
theorem dX6_text_33 : decode cX6_text 33 = .ok (.baload, 1) := dk_51 (dk_at dksX6_text_1 10 rfl rfl)
theorem dX6_text_34 : decode cX6_text 34 = .ok (.istore_n 3, 1) := dk_62 (dk_at dksX6_text_1 11 rfl rfl)
theorem dX6_text_35 : decode cX6_text 35 = .ok (.aload_n 0, 1) := dk_42 (dk_at dksX6_text_1 12 rfl rfl)
theorem dX6_text_36 : decode cX6_text 36 = .ok (.getfield 25, 3) := dk_180 0 25 (dk_at dksX6_text_1 13 rfl rfl)
theorem dX6_text_39 : decode cX6_text 39 = .ok (.iload_n 1, 1) := dk_27 (dk_at dksX6_text_1 16 rfl rfl)
theorem dX6_text_40 : decode cX6_text 40 = .ok (.iload_n 2, 1) := dk_28 (dk_at dksX6_text_1 17 rfl rfl)
theorem dX6_text_41 : decode cX6_text 41 = .ok (.bastore, 1) := dk_84 (dk_at dksX6_text_1 18 rfl rfl)
theorem dX6_text_42 : decode cX6_text 42 = .ok (.iload_n 3, 1) := dk_29 (dk_at dksX6_text_1 19 rfl rfl)
theorem dX6_text_43 : decode cX6_text 43 = .ok (.ireturn, 1) := dk_172 (dk_at dksX6_text_1 20 rfl rfl)
abbrev cX6_word : ByteArray := prog_13_method_12_code
def yX6_word : MethodName := ⟨RX6, "word", "()I"⟩
def dkwX6_word_2 : List UInt8 := [180, 0, 62, 2, 79, 42, 89, 180, 0, 62, 4, 96, 181, 0, 62, 42, 180, 0, 62, 172]
abbrev dktX6_word_2 : List UInt8 := dkwX6_word_2 ++ []
def dkwX6_word_1 : List UInt8 := [154, 0, 5, 3, 172, 42, 180, 0, 29, 42, 180, 0, 62, 42, 182, 0, 78, 79, 42, 180, 0, 32, 42]
abbrev dktX6_word_1 : List UInt8 := dkwX6_word_1 ++ dktX6_word_2
def dkwX6_word_0 : List UInt8 := [42, 42, 180, 0, 65, 153, 0, 11, 42, 180, 0, 62, 8, 160, 0, 7, 4, 167, 0, 4, 3, 182, 0, 68]
abbrev dktX6_word_0 : List UInt8 := dkwX6_word_0 ++ dktX6_word_1
theorem dksX6_word_0 : cX6_word.data.toList.drop 0 = dktX6_word_0 := by decide +kernel
theorem dksX6_word_1 : cX6_word.data.toList.drop 24 = dktX6_word_1 := dk_seg dksX6_word_0 24 rfl rfl
theorem dksX6_word_2 : cX6_word.data.toList.drop 47 = dktX6_word_2 := dk_seg dksX6_word_1 23 rfl rfl
theorem dX6_word_0 : decode cX6_word 0 = .ok (.aload_n 0, 1) := dk_42 (dk_at dksX6_word_0 0 rfl rfl)
theorem dX6_word_1 : decode cX6_word 1 = .ok (.aload_n 0, 1) := dk_42 (dk_at dksX6_word_0 1 rfl rfl)
theorem dX6_word_2 : decode cX6_word 2 = .ok (.getfield 65, 3) := dk_180 0 65 (dk_at dksX6_word_0 2 rfl rfl)
theorem dX6_word_5 : decode cX6_word 5 = .ok (.ifCond .eq 11, 3) := dk_153 0 11 (dk_at dksX6_word_0 5 rfl rfl)
theorem dX6_word_8 : decode cX6_word 8 = .ok (.aload_n 0, 1) := dk_42 (dk_at dksX6_word_0 8 rfl rfl)
theorem dX6_word_9 : decode cX6_word 9 = .ok (.getfield 62, 3) := dk_180 0 62 (dk_at dksX6_word_0 9 rfl rfl)
theorem dX6_word_12 : decode cX6_word 12 = .ok (.iconst 5, 1) := dk_8 (dk_at dksX6_word_0 12 rfl rfl)
theorem dX6_word_13 : decode cX6_word 13 = .ok (.if_icmp .ne 7, 3) := dk_160 0 7 (dk_at dksX6_word_0 13 rfl rfl)
theorem dX6_word_16 : decode cX6_word 16 = .ok (.iconst 1, 1) := dk_4 (dk_at dksX6_word_0 16 rfl rfl)
theorem dX6_word_17 : decode cX6_word 17 = .ok (.goto 4, 3) := dk_167 0 4 (dk_at dksX6_word_0 17 rfl rfl)
theorem dX6_word_20 : decode cX6_word 20 = .ok (.iconst 0, 1) := dk_3 (dk_at dksX6_word_0 20 rfl rfl)
theorem dX6_word_21 : decode cX6_word 21 = .ok (.invokevirtual 68, 3) := dk_182 0 68 (dk_at dksX6_word_0 21 rfl rfl)
theorem dX6_word_24 : decode cX6_word 24 = .ok (.ifCond .ne 5, 3) := dk_154 0 5 (dk_at dksX6_word_1 0 rfl rfl)
theorem dX6_word_27 : decode cX6_word 27 = .ok (.iconst 0, 1) := dk_3 (dk_at dksX6_word_1 3 rfl rfl)
theorem dX6_word_28 : decode cX6_word 28 = .ok (.ireturn, 1) := dk_172 (dk_at dksX6_word_1 4 rfl rfl)
theorem dX6_word_29 : decode cX6_word 29 = .ok (.aload_n 0, 1) := dk_42 (dk_at dksX6_word_1 5 rfl rfl)
theorem dX6_word_30 : decode cX6_word 30 = .ok (.getfield 29, 3) := dk_180 0 29 (dk_at dksX6_word_1 6 rfl rfl)
theorem dX6_word_33 : decode cX6_word 33 = .ok (.aload_n 0, 1) := dk_42 (dk_at dksX6_word_1 9 rfl rfl)
theorem dX6_word_34 : decode cX6_word 34 = .ok (.getfield 62, 3) := dk_180 0 62 (dk_at dksX6_word_1 10 rfl rfl)
theorem dX6_word_37 : decode cX6_word 37 = .ok (.aload_n 0, 1) := dk_42 (dk_at dksX6_word_1 13 rfl rfl)
theorem dX6_word_38 : decode cX6_word 38 = .ok (.invokevirtual 78, 3) := dk_182 0 78 (dk_at dksX6_word_1 14 rfl rfl)
theorem dX6_word_41 : decode cX6_word 41 = .ok (.iastore, 1) := dk_79 (dk_at dksX6_word_1 17 rfl rfl)
theorem dX6_word_42 : decode cX6_word 42 = .ok (.aload_n 0, 1) := dk_42 (dk_at dksX6_word_1 18 rfl rfl)
theorem dX6_word_43 : decode cX6_word 43 = .ok (.getfield 32, 3) := dk_180 0 32 (dk_at dksX6_word_1 19 rfl rfl)
theorem dX6_word_46 : decode cX6_word 46 = .ok (.aload_n 0, 1) := dk_42 (dk_at dksX6_word_1 22 rfl rfl)
theorem dX6_word_47 : decode cX6_word 47 = .ok (.getfield 62, 3) := dk_180 0 62 (dk_at dksX6_word_2 0 rfl rfl)
theorem dX6_word_50 : decode cX6_word 50 = .ok (.iconst (-1), 1) := dk_2 (dk_at dksX6_word_2 3 rfl rfl)
theorem dX6_word_51 : decode cX6_word 51 = .ok (.iastore, 1) := dk_79 (dk_at dksX6_word_2 4 rfl rfl)
theorem dX6_word_52 : decode cX6_word 52 = .ok (.aload_n 0, 1) := dk_42 (dk_at dksX6_word_2 5 rfl rfl)
theorem dX6_word_53 : decode cX6_word 53 = .ok (.dup, 1) := dk_89 (dk_at dksX6_word_2 6 rfl rfl)
theorem dX6_word_54 : decode cX6_word 54 = .ok (.getfield 62, 3) := dk_180 0 62 (dk_at dksX6_word_2 7 rfl rfl)
theorem dX6_word_57 : decode cX6_word 57 = .ok (.iconst 1, 1) := dk_4 (dk_at dksX6_word_2 10 rfl rfl)
theorem dX6_word_58 : decode cX6_word 58 = .ok (.iadd, 1) := dk_96 (dk_at dksX6_word_2 11 rfl rfl)
theorem dX6_word_59 : decode cX6_word 59 = .ok (.putfield 62, 3) := dk_181 0 62 (dk_at dksX6_word_2 12 rfl rfl)
theorem dX6_word_62 : decode cX6_word 62 = .ok (.aload_n 0, 1) := dk_42 (dk_at dksX6_word_2 15 rfl rfl)
theorem dX6_word_63 : decode cX6_word 63 = .ok (.getfield 62, 3) := dk_180 0 62 (dk_at dksX6_word_2 16 rfl rfl)
theorem dX6_word_66 : decode cX6_word 66 = .ok (.ireturn, 1) := dk_172 (dk_at dksX6_word_2 19 rfl rfl)
abbrev cX6_clear : ByteArray := prog_13_method_13_code
def yX6_clear : MethodName := ⟨RX6, "clear", "()I"⟩
def dkwX6_clear_0 : List UInt8 := [42, 3, 181, 0, 55, 42, 180, 0, 62, 60, 42, 3, 181, 0, 62, 27, 172]
abbrev dktX6_clear_0 : List UInt8 := dkwX6_clear_0 ++ []
theorem dksX6_clear_0 : cX6_clear.data.toList.drop 0 = dktX6_clear_0 := by decide +kernel
theorem dX6_clear_0 : decode cX6_clear 0 = .ok (.aload_n 0, 1) := dk_42 (dk_at dksX6_clear_0 0 rfl rfl)
theorem dX6_clear_1 : decode cX6_clear 1 = .ok (.iconst 0, 1) := dk_3 (dk_at dksX6_clear_0 1 rfl rfl)
theorem dX6_clear_2 : decode cX6_clear 2 = .ok (.putfield 55, 3) := dk_181 0 55 (dk_at dksX6_clear_0 2 rfl rfl)
theorem dX6_clear_5 : decode cX6_clear 5 = .ok (.aload_n 0, 1) := dk_42 (dk_at dksX6_clear_0 5 rfl rfl)
theorem dX6_clear_6 : decode cX6_clear 6 = .ok (.getfield 62, 3) := dk_180 0 62 (dk_at dksX6_clear_0 6 rfl rfl)
theorem dX6_clear_9 : decode cX6_clear 9 = .ok (.istore_n 1, 1) := dk_60 (dk_at dksX6_clear_0 9 rfl rfl)
theorem dX6_clear_10 : decode cX6_clear 10 = .ok (.aload_n 0, 1) := dk_42 (dk_at dksX6_clear_0 10 rfl rfl)
theorem dX6_clear_11 : decode cX6_clear 11 = .ok (.iconst 0, 1) := dk_3 (dk_at dksX6_clear_0 11 rfl rfl)
theorem dX6_clear_12 : decode cX6_clear 12 = .ok (.putfield 62, 3) := dk_181 0 62 (dk_at dksX6_clear_0 12 rfl rfl)
theorem dX6_clear_15 : decode cX6_clear 15 = .ok (.iload_n 1, 1) := dk_27 (dk_at dksX6_clear_0 15 rfl rfl)
theorem dX6_clear_16 : decode cX6_clear 16 = .ok (.ireturn, 1) := dk_172 (dk_at dksX6_clear_0 16 rfl rfl)
abbrev cX6_lock : ByteArray := prog_13_method_14_code
def yX6_lock : MethodName := ⟨RX6, "lock", "(II)I"⟩
def dkwX6_lock_1 : List UInt8 := [182, 0, 68, 154, 0, 5, 3, 172, 42, 180, 0, 32, 27, 46, 62, 42, 180, 0, 32, 27, 28, 79, 29, 172]
abbrev dktX6_lock_1 : List UInt8 := dkwX6_lock_1 ++ []
def dkwX6_lock_0 : List UInt8 := [42, 42, 27, 182, 0, 85, 153, 0, 16, 28, 2, 7, 184, 0, 58, 153, 0, 7, 3, 167, 0, 4, 4]
abbrev dktX6_lock_0 : List UInt8 := dkwX6_lock_0 ++ dktX6_lock_1
theorem dksX6_lock_0 : cX6_lock.data.toList.drop 0 = dktX6_lock_0 := by decide +kernel
theorem dksX6_lock_1 : cX6_lock.data.toList.drop 23 = dktX6_lock_1 := dk_seg dksX6_lock_0 23 rfl rfl
theorem dX6_lock_0 : decode cX6_lock 0 = .ok (.aload_n 0, 1) := dk_42 (dk_at dksX6_lock_0 0 rfl rfl)
theorem dX6_lock_1 : decode cX6_lock 1 = .ok (.aload_n 0, 1) := dk_42 (dk_at dksX6_lock_0 1 rfl rfl)
theorem dX6_lock_2 : decode cX6_lock 2 = .ok (.iload_n 1, 1) := dk_27 (dk_at dksX6_lock_0 2 rfl rfl)
theorem dX6_lock_3 : decode cX6_lock 3 = .ok (.invokevirtual 85, 3) := dk_182 0 85 (dk_at dksX6_lock_0 3 rfl rfl)
theorem dX6_lock_6 : decode cX6_lock 6 = .ok (.ifCond .eq 16, 3) := dk_153 0 16 (dk_at dksX6_lock_0 6 rfl rfl)
theorem dX6_lock_9 : decode cX6_lock 9 = .ok (.iload_n 2, 1) := dk_28 (dk_at dksX6_lock_0 9 rfl rfl)
theorem dX6_lock_10 : decode cX6_lock 10 = .ok (.iconst (-1), 1) := dk_2 (dk_at dksX6_lock_0 10 rfl rfl)
theorem dX6_lock_11 : decode cX6_lock 11 = .ok (.iconst 4, 1) := dk_7 (dk_at dksX6_lock_0 11 rfl rfl)
theorem dX6_lock_12 : decode cX6_lock 12 = .ok (.invokestatic 58, 3) := dk_184 0 58 (dk_at dksX6_lock_0 12 rfl rfl)
theorem dX6_lock_15 : decode cX6_lock 15 = .ok (.ifCond .eq 7, 3) := dk_153 0 7 (dk_at dksX6_lock_0 15 rfl rfl)
theorem dX6_lock_18 : decode cX6_lock 18 = .ok (.iconst 0, 1) := dk_3 (dk_at dksX6_lock_0 18 rfl rfl)
theorem dX6_lock_19 : decode cX6_lock 19 = .ok (.goto 4, 3) := dk_167 0 4 (dk_at dksX6_lock_0 19 rfl rfl)
theorem dX6_lock_22 : decode cX6_lock 22 = .ok (.iconst 1, 1) := dk_4 (dk_at dksX6_lock_0 22 rfl rfl)
theorem dX6_lock_23 : decode cX6_lock 23 = .ok (.invokevirtual 68, 3) := dk_182 0 68 (dk_at dksX6_lock_1 0 rfl rfl)
theorem dX6_lock_26 : decode cX6_lock 26 = .ok (.ifCond .ne 5, 3) := dk_154 0 5 (dk_at dksX6_lock_1 3 rfl rfl)
theorem dX6_lock_29 : decode cX6_lock 29 = .ok (.iconst 0, 1) := dk_3 (dk_at dksX6_lock_1 6 rfl rfl)
theorem dX6_lock_30 : decode cX6_lock 30 = .ok (.ireturn, 1) := dk_172 (dk_at dksX6_lock_1 7 rfl rfl)
theorem dX6_lock_31 : decode cX6_lock 31 = .ok (.aload_n 0, 1) := dk_42 (dk_at dksX6_lock_1 8 rfl rfl)
theorem dX6_lock_32 : decode cX6_lock 32 = .ok (.getfield 32, 3) := dk_180 0 32 (dk_at dksX6_lock_1 9 rfl rfl)
theorem dX6_lock_35 : decode cX6_lock 35 = .ok (.iload_n 1, 1) := dk_27 (dk_at dksX6_lock_1 12 rfl rfl)
theorem dX6_lock_36 : decode cX6_lock 36 = .ok (.iaload, 1) := dk_46 (dk_at dksX6_lock_1 13 rfl rfl)
theorem dX6_lock_37 : decode cX6_lock 37 = .ok (.istore_n 3, 1) := dk_62 (dk_at dksX6_lock_1 14 rfl rfl)
theorem dX6_lock_38 : decode cX6_lock 38 = .ok (.aload_n 0, 1) := dk_42 (dk_at dksX6_lock_1 15 rfl rfl)
theorem dX6_lock_39 : decode cX6_lock 39 = .ok (.getfield 32, 3) := dk_180 0 32 (dk_at dksX6_lock_1 16 rfl rfl)
theorem dX6_lock_42 : decode cX6_lock 42 = .ok (.iload_n 1, 1) := dk_27 (dk_at dksX6_lock_1 19 rfl rfl)
theorem dX6_lock_43 : decode cX6_lock 43 = .ok (.iload_n 2, 1) := dk_28 (dk_at dksX6_lock_1 20 rfl rfl)
theorem dX6_lock_44 : decode cX6_lock 44 = .ok (.iastore, 1) := dk_79 (dk_at dksX6_lock_1 21 rfl rfl)
theorem dX6_lock_45 : decode cX6_lock 45 = .ok (.iload_n 3, 1) := dk_29 (dk_at dksX6_lock_1 22 rfl rfl)
theorem dX6_lock_46 : decode cX6_lock 46 = .ok (.ireturn, 1) := dk_172 (dk_at dksX6_lock_1 23 rfl rfl)
abbrev cX6_isPlace : ByteArray := prog_13_method_6_code
def yX6_isPlace : MethodName := ⟨RX6, "isPlace", "(I)Z"⟩
def dkwX6_isPlace_0 : List UInt8 := [27, 3, 42, 180, 0, 62, 4, 100, 184, 0, 58, 172]
abbrev dktX6_isPlace_0 : List UInt8 := dkwX6_isPlace_0 ++ []
theorem dksX6_isPlace_0 : cX6_isPlace.data.toList.drop 0 = dktX6_isPlace_0 := by decide +kernel
theorem dX6_isPlace_0 : decode cX6_isPlace 0 = .ok (.iload_n 1, 1) := dk_27 (dk_at dksX6_isPlace_0 0 rfl rfl)
theorem dX6_isPlace_1 : decode cX6_isPlace 1 = .ok (.iconst 0, 1) := dk_3 (dk_at dksX6_isPlace_0 1 rfl rfl)
theorem dX6_isPlace_2 : decode cX6_isPlace 2 = .ok (.aload_n 0, 1) := dk_42 (dk_at dksX6_isPlace_0 2 rfl rfl)
theorem dX6_isPlace_3 : decode cX6_isPlace 3 = .ok (.getfield 62, 3) := dk_180 0 62 (dk_at dksX6_isPlace_0 3 rfl rfl)
theorem dX6_isPlace_6 : decode cX6_isPlace 6 = .ok (.iconst 1, 1) := dk_4 (dk_at dksX6_isPlace_0 6 rfl rfl)
theorem dX6_isPlace_7 : decode cX6_isPlace 7 = .ok (.isub, 1) := dk_100 (dk_at dksX6_isPlace_0 7 rfl rfl)
theorem dX6_isPlace_8 : decode cX6_isPlace 8 = .ok (.invokestatic 58, 3) := dk_184 0 58 (dk_at dksX6_isPlace_0 8 rfl rfl)
theorem dX6_isPlace_11 : decode cX6_isPlace 11 = .ok (.ireturn, 1) := dk_172 (dk_at dksX6_isPlace_0 11 rfl rfl)
abbrev cX6_weight : ByteArray := prog_13_method_24_code
def yX6_weight : MethodName := ⟨RX6, "weight", "(I)I"⟩
def dkwX6_weight_1 : List UInt8 := [182, 0, 68, 153, 0, 15, 42, 42, 180, 0, 51, 27, 182, 0, 99, 167, 0, 4, 3, 172]
abbrev dktX6_weight_1 : List UInt8 := dkwX6_weight_1 ++ []
def dkwX6_weight_0 : List UInt8 := [42, 27, 184, 0, 72, 154, 0, 7, 4, 167, 0, 15, 42, 180, 0, 65, 154, 0, 7, 5, 167, 0, 4, 3]
abbrev dktX6_weight_0 : List UInt8 := dkwX6_weight_0 ++ dktX6_weight_1
theorem dksX6_weight_0 : cX6_weight.data.toList.drop 0 = dktX6_weight_0 := by decide +kernel
theorem dksX6_weight_1 : cX6_weight.data.toList.drop 24 = dktX6_weight_1 := dk_seg dksX6_weight_0 24 rfl rfl
theorem dX6_weight_0 : decode cX6_weight 0 = .ok (.aload_n 0, 1) := dk_42 (dk_at dksX6_weight_0 0 rfl rfl)
theorem dX6_weight_1 : decode cX6_weight 1 = .ok (.iload_n 1, 1) := dk_27 (dk_at dksX6_weight_0 1 rfl rfl)
theorem dX6_weight_2 : decode cX6_weight 2 = .ok (.invokestatic 72, 3) := dk_184 0 72 (dk_at dksX6_weight_0 2 rfl rfl)
theorem dX6_weight_5 : decode cX6_weight 5 = .ok (.ifCond .ne 7, 3) := dk_154 0 7 (dk_at dksX6_weight_0 5 rfl rfl)
theorem dX6_weight_8 : decode cX6_weight 8 = .ok (.iconst 1, 1) := dk_4 (dk_at dksX6_weight_0 8 rfl rfl)
theorem dX6_weight_9 : decode cX6_weight 9 = .ok (.goto 15, 3) := dk_167 0 15 (dk_at dksX6_weight_0 9 rfl rfl)
theorem dX6_weight_12 : decode cX6_weight 12 = .ok (.aload_n 0, 1) := dk_42 (dk_at dksX6_weight_0 12 rfl rfl)
theorem dX6_weight_13 : decode cX6_weight 13 = .ok (.getfield 65, 3) := dk_180 0 65 (dk_at dksX6_weight_0 13 rfl rfl)
theorem dX6_weight_16 : decode cX6_weight 16 = .ok (.ifCond .ne 7, 3) := dk_154 0 7 (dk_at dksX6_weight_0 16 rfl rfl)
theorem dX6_weight_19 : decode cX6_weight 19 = .ok (.iconst 2, 1) := dk_5 (dk_at dksX6_weight_0 19 rfl rfl)
theorem dX6_weight_20 : decode cX6_weight 20 = .ok (.goto 4, 3) := dk_167 0 4 (dk_at dksX6_weight_0 20 rfl rfl)
theorem dX6_weight_23 : decode cX6_weight 23 = .ok (.iconst 0, 1) := dk_3 (dk_at dksX6_weight_0 23 rfl rfl)
theorem dX6_weight_24 : decode cX6_weight 24 = .ok (.invokevirtual 68, 3) := dk_182 0 68 (dk_at dksX6_weight_1 0 rfl rfl)
theorem dX6_weight_27 : decode cX6_weight 27 = .ok (.ifCond .eq 15, 3) := dk_153 0 15 (dk_at dksX6_weight_1 3 rfl rfl)
theorem dX6_weight_30 : decode cX6_weight 30 = .ok (.aload_n 0, 1) := dk_42 (dk_at dksX6_weight_1 6 rfl rfl)
theorem dX6_weight_31 : decode cX6_weight 31 = .ok (.aload_n 0, 1) := dk_42 (dk_at dksX6_weight_1 7 rfl rfl)
theorem dX6_weight_32 : decode cX6_weight 32 = .ok (.getfield 51, 3) := dk_180 0 51 (dk_at dksX6_weight_1 8 rfl rfl)
theorem dX6_weight_35 : decode cX6_weight 35 = .ok (.iload_n 1, 1) := dk_27 (dk_at dksX6_weight_1 11 rfl rfl)
theorem dX6_weight_36 : decode cX6_weight 36 = .ok (.invokevirtual 99, 3) := dk_182 0 99 (dk_at dksX6_weight_1 12 rfl rfl)
theorem dX6_weight_39 : decode cX6_weight 39 = .ok (.goto 4, 3) := dk_167 0 4 (dk_at dksX6_weight_1 15 rfl rfl)
theorem dX6_weight_42 : decode cX6_weight 42 = .ok (.iconst 0, 1) := dk_3 (dk_at dksX6_weight_1 18 rfl rfl)
theorem dX6_weight_43 : decode cX6_weight 43 = .ok (.ireturn, 1) := dk_172 (dk_at dksX6_weight_1 19 rfl rfl)
abbrev cX6_weightFor : ByteArray := prog_13_method_17_code
def yX6_weightFor : MethodName := ⟨RX6, "weightFor", "(II)I"⟩
def dkwX6_weightFor_3 : List UInt8 := [182, 0, 89, 104, 4, 96, 16, 9, 184, 0, 93, 172, 21, 4, 16, 27, 108, 54, 4, 167, 255, 201, 4, 172]
abbrev dktX6_weightFor_3 : List UInt8 := dkwX6_weightFor_3 ++ []
def dkwX6_weightFor_2 : List UInt8 := [21, 4, 133, 148, 155, 0, 32, 42, 27, 21, 4, 2, 182, 0, 89, 158, 0, 21, 5, 42, 27, 21, 4, 28]
abbrev dktX6_weightFor_2 : List UInt8 := dkwX6_weightFor_2 ++ dktX6_weightFor_3
def dkwX6_weightFor_1 : List UInt8 := [16, 9, 184, 0, 93, 172, 17, 76, 227, 54, 4, 21, 4, 4, 164, 0, 55, 27, 133, 20, 0, 97, 105]
abbrev dktX6_weightFor_1 : List UInt8 := dkwX6_weightFor_1 ++ dktX6_weightFor_2
def dkwX6_weightFor_0 : List UInt8 := [18, 88, 62, 42, 27, 29, 2, 182, 0, 89, 158, 0, 20, 7, 42, 27, 29, 28, 182, 0, 89, 104, 4, 96]
abbrev dktX6_weightFor_0 : List UInt8 := dkwX6_weightFor_0 ++ dktX6_weightFor_1
theorem dksX6_weightFor_0 : cX6_weightFor.data.toList.drop 0 = dktX6_weightFor_0 := by decide +kernel
theorem dksX6_weightFor_1 : cX6_weightFor.data.toList.drop 24 = dktX6_weightFor_1 := dk_seg dksX6_weightFor_0 24 rfl rfl
theorem dksX6_weightFor_2 : cX6_weightFor.data.toList.drop 47 = dktX6_weightFor_2 := dk_seg dksX6_weightFor_1 23 rfl rfl
theorem dksX6_weightFor_3 : cX6_weightFor.data.toList.drop 71 = dktX6_weightFor_3 := dk_seg dksX6_weightFor_2 24 rfl rfl
theorem dX6_weightFor_0 : decode cX6_weightFor 0 = .ok (.ldc 88, 2) := dk_18 88 (dk_at dksX6_weightFor_0 0 rfl rfl)
theorem dX6_weightFor_2 : decode cX6_weightFor 2 = .ok (.istore_n 3, 1) := dk_62 (dk_at dksX6_weightFor_0 2 rfl rfl)
theorem dX6_weightFor_3 : decode cX6_weightFor 3 = .ok (.aload_n 0, 1) := dk_42 (dk_at dksX6_weightFor_0 3 rfl rfl)
theorem dX6_weightFor_4 : decode cX6_weightFor 4 = .ok (.iload_n 1, 1) := dk_27 (dk_at dksX6_weightFor_0 4 rfl rfl)
theorem dX6_weightFor_5 : decode cX6_weightFor 5 = .ok (.iload_n 3, 1) := dk_29 (dk_at dksX6_weightFor_0 5 rfl rfl)
theorem dX6_weightFor_6 : decode cX6_weightFor 6 = .ok (.iconst (-1), 1) := dk_2 (dk_at dksX6_weightFor_0 6 rfl rfl)
theorem dX6_weightFor_7 : decode cX6_weightFor 7 = .ok (.invokevirtual 89, 3) := dk_182 0 89 (dk_at dksX6_weightFor_0 7 rfl rfl)
theorem dX6_weightFor_10 : decode cX6_weightFor 10 = .ok (.ifCond .le 20, 3) := dk_158 0 20 (dk_at dksX6_weightFor_0 10 rfl rfl)
theorem dX6_weightFor_13 : decode cX6_weightFor 13 = .ok (.iconst 4, 1) := dk_7 (dk_at dksX6_weightFor_0 13 rfl rfl)
theorem dX6_weightFor_14 : decode cX6_weightFor 14 = .ok (.aload_n 0, 1) := dk_42 (dk_at dksX6_weightFor_0 14 rfl rfl)
theorem dX6_weightFor_15 : decode cX6_weightFor 15 = .ok (.iload_n 1, 1) := dk_27 (dk_at dksX6_weightFor_0 15 rfl rfl)
theorem dX6_weightFor_16 : decode cX6_weightFor 16 = .ok (.iload_n 3, 1) := dk_29 (dk_at dksX6_weightFor_0 16 rfl rfl)
theorem dX6_weightFor_17 : decode cX6_weightFor 17 = .ok (.iload_n 2, 1) := dk_28 (dk_at dksX6_weightFor_0 17 rfl rfl)
theorem dX6_weightFor_18 : decode cX6_weightFor 18 = .ok (.invokevirtual 89, 3) := dk_182 0 89 (dk_at dksX6_weightFor_0 18 rfl rfl)
theorem dX6_weightFor_21 : decode cX6_weightFor 21 = .ok (.imul, 1) := dk_104 (dk_at dksX6_weightFor_0 21 rfl rfl)
theorem dX6_weightFor_22 : decode cX6_weightFor 22 = .ok (.iconst 1, 1) := dk_4 (dk_at dksX6_weightFor_0 22 rfl rfl)
theorem dX6_weightFor_23 : decode cX6_weightFor 23 = .ok (.iadd, 1) := dk_96 (dk_at dksX6_weightFor_0 23 rfl rfl)
theorem dX6_weightFor_24 : decode cX6_weightFor 24 = .ok (.bipush 9, 2) := dk_16 9 (dk_at dksX6_weightFor_1 0 rfl rfl)
theorem dX6_weightFor_26 : decode cX6_weightFor 26 = .ok (.invokestatic 93, 3) := dk_184 0 93 (dk_at dksX6_weightFor_1 2 rfl rfl)
theorem dX6_weightFor_29 : decode cX6_weightFor 29 = .ok (.ireturn, 1) := dk_172 (dk_at dksX6_weightFor_1 5 rfl rfl)
theorem dX6_weightFor_30 : decode cX6_weightFor 30 = .ok (.sipush 19683, 3) := dk_17 76 227 (dk_at dksX6_weightFor_1 6 rfl rfl)
theorem dX6_weightFor_33 : decode cX6_weightFor 33 = .ok (.istore 4, 2) := dk_54 4 (dk_at dksX6_weightFor_1 9 rfl rfl)
theorem dX6_weightFor_35 : decode cX6_weightFor 35 = .ok (.iload 4, 2) := dk_21 4 (dk_at dksX6_weightFor_1 11 rfl rfl)
theorem dX6_weightFor_37 : decode cX6_weightFor 37 = .ok (.iconst 1, 1) := dk_4 (dk_at dksX6_weightFor_1 13 rfl rfl)
theorem dX6_weightFor_38 : decode cX6_weightFor 38 = .ok (.if_icmp .le 55, 3) := dk_164 0 55 (dk_at dksX6_weightFor_1 14 rfl rfl)
theorem dX6_weightFor_41 : decode cX6_weightFor 41 = .ok (.iload_n 1, 1) := dk_27 (dk_at dksX6_weightFor_1 17 rfl rfl)
theorem dX6_weightFor_42 : decode cX6_weightFor 42 = .ok (.i2l, 1) := dk_133 (dk_at dksX6_weightFor_1 18 rfl rfl)
theorem dX6_weightFor_43 : decode cX6_weightFor 43 = .ok (.ldc2_w 97, 3) := dk_20 0 97 (dk_at dksX6_weightFor_1 19 rfl rfl)
theorem dX6_weightFor_46 : decode cX6_weightFor 46 = .ok (.lmul, 1) := dk_105 (dk_at dksX6_weightFor_1 22 rfl rfl)
theorem dX6_weightFor_47 : decode cX6_weightFor 47 = .ok (.iload 4, 2) := dk_21 4 (dk_at dksX6_weightFor_2 0 rfl rfl)
theorem dX6_weightFor_49 : decode cX6_weightFor 49 = .ok (.i2l, 1) := dk_133 (dk_at dksX6_weightFor_2 2 rfl rfl)
theorem dX6_weightFor_50 : decode cX6_weightFor 50 = .ok (.lcmp, 1) := dk_148 (dk_at dksX6_weightFor_2 3 rfl rfl)
theorem dX6_weightFor_51 : decode cX6_weightFor 51 = .ok (.ifCond .lt 32, 3) := dk_155 0 32 (dk_at dksX6_weightFor_2 4 rfl rfl)
theorem dX6_weightFor_54 : decode cX6_weightFor 54 = .ok (.aload_n 0, 1) := dk_42 (dk_at dksX6_weightFor_2 7 rfl rfl)
theorem dX6_weightFor_55 : decode cX6_weightFor 55 = .ok (.iload_n 1, 1) := dk_27 (dk_at dksX6_weightFor_2 8 rfl rfl)
theorem dX6_weightFor_56 : decode cX6_weightFor 56 = .ok (.iload 4, 2) := dk_21 4 (dk_at dksX6_weightFor_2 9 rfl rfl)
theorem dX6_weightFor_58 : decode cX6_weightFor 58 = .ok (.iconst (-1), 1) := dk_2 (dk_at dksX6_weightFor_2 11 rfl rfl)
theorem dX6_weightFor_59 : decode cX6_weightFor 59 = .ok (.invokevirtual 89, 3) := dk_182 0 89 (dk_at dksX6_weightFor_2 12 rfl rfl)
theorem dX6_weightFor_62 : decode cX6_weightFor 62 = .ok (.ifCond .le 21, 3) := dk_158 0 21 (dk_at dksX6_weightFor_2 15 rfl rfl)
theorem dX6_weightFor_65 : decode cX6_weightFor 65 = .ok (.iconst 2, 1) := dk_5 (dk_at dksX6_weightFor_2 18 rfl rfl)
theorem dX6_weightFor_66 : decode cX6_weightFor 66 = .ok (.aload_n 0, 1) := dk_42 (dk_at dksX6_weightFor_2 19 rfl rfl)
theorem dX6_weightFor_67 : decode cX6_weightFor 67 = .ok (.iload_n 1, 1) := dk_27 (dk_at dksX6_weightFor_2 20 rfl rfl)
theorem dX6_weightFor_68 : decode cX6_weightFor 68 = .ok (.iload 4, 2) := dk_21 4 (dk_at dksX6_weightFor_2 21 rfl rfl)
theorem dX6_weightFor_70 : decode cX6_weightFor 70 = .ok (.iload_n 2, 1) := dk_28 (dk_at dksX6_weightFor_2 23 rfl rfl)
theorem dX6_weightFor_71 : decode cX6_weightFor 71 = .ok (.invokevirtual 89, 3) := dk_182 0 89 (dk_at dksX6_weightFor_3 0 rfl rfl)
theorem dX6_weightFor_74 : decode cX6_weightFor 74 = .ok (.imul, 1) := dk_104 (dk_at dksX6_weightFor_3 3 rfl rfl)
theorem dX6_weightFor_75 : decode cX6_weightFor 75 = .ok (.iconst 1, 1) := dk_4 (dk_at dksX6_weightFor_3 4 rfl rfl)
theorem dX6_weightFor_76 : decode cX6_weightFor 76 = .ok (.iadd, 1) := dk_96 (dk_at dksX6_weightFor_3 5 rfl rfl)
theorem dX6_weightFor_77 : decode cX6_weightFor 77 = .ok (.bipush 9, 2) := dk_16 9 (dk_at dksX6_weightFor_3 6 rfl rfl)
theorem dX6_weightFor_79 : decode cX6_weightFor 79 = .ok (.invokestatic 93, 3) := dk_184 0 93 (dk_at dksX6_weightFor_3 8 rfl rfl)
theorem dX6_weightFor_82 : decode cX6_weightFor 82 = .ok (.ireturn, 1) := dk_172 (dk_at dksX6_weightFor_3 11 rfl rfl)
theorem dX6_weightFor_83 : decode cX6_weightFor 83 = .ok (.iload 4, 2) := dk_21 4 (dk_at dksX6_weightFor_3 12 rfl rfl)
theorem dX6_weightFor_85 : decode cX6_weightFor 85 = .ok (.bipush 27, 2) := dk_16 27 (dk_at dksX6_weightFor_3 14 rfl rfl)
theorem dX6_weightFor_87 : decode cX6_weightFor 87 = .ok (.idiv, 1) := dk_108 (dk_at dksX6_weightFor_3 16 rfl rfl)
theorem dX6_weightFor_88 : decode cX6_weightFor 88 = .ok (.istore 4, 2) := dk_54 4 (dk_at dksX6_weightFor_3 17 rfl rfl)
theorem dX6_weightFor_90 : decode cX6_weightFor 90 = .ok (.goto (-55), 3) := dk_167 255 201 (dk_at dksX6_weightFor_3 19 rfl rfl)
theorem dX6_weightFor_93 : decode cX6_weightFor 93 = .ok (.iconst 1, 1) := dk_4 (dk_at dksX6_weightFor_3 22 rfl rfl)
theorem dX6_weightFor_94 : decode cX6_weightFor 94 = .ok (.ireturn, 1) := dk_172 (dk_at dksX6_weightFor_3 23 rfl rfl)
abbrev cX6_often : ByteArray := prog_13_method_15_code
def yX6_often : MethodName := ⟨RX6, "often", "(III)I"⟩
def dkwX6_often_4 : List UInt8 := [132, 6, 1, 167, 255, 184, 132, 5, 1, 167, 255, 162, 21, 4, 172]
abbrev dktX6_often_4 : List UInt8 := dkwX6_often_4 ++ []
def dkwX6_often_3 : List UInt8 := [159, 0, 14, 42, 180, 0, 19, 21, 6, 46, 29, 160, 0, 7, 4, 167, 0, 4, 3, 96, 54, 4]
abbrev dktX6_often_3 : List UInt8 := dkwX6_often_3 ++ dktX6_often_4
def dkwX6_often_2 : List UInt8 := [153, 0, 50, 21, 4, 42, 180, 0, 16, 21, 6, 46, 28, 112, 27, 28, 112, 160, 0, 23, 29, 2]
abbrev dktX6_often_2 : List UInt8 := dkwX6_often_2 ++ dktX6_often_3
def dkwX6_often_1 : List UInt8 := [16, 6, 21, 5, 104, 42, 180, 0, 22, 21, 5, 46, 96, 162, 0, 60, 42, 180, 0, 25, 21, 5, 51]
abbrev dktX6_often_1 : List UInt8 := dkwX6_often_1 ++ dktX6_often_2
def dkwX6_often_0 : List UInt8 := [3, 54, 4, 3, 54, 5, 21, 5, 42, 180, 0, 82, 162, 0, 91, 16, 6, 21, 5, 104, 54, 6, 21, 6]
abbrev dktX6_often_0 : List UInt8 := dkwX6_often_0 ++ dktX6_often_1
theorem dksX6_often_0 : cX6_often.data.toList.drop 0 = dktX6_often_0 := by decide +kernel
theorem dksX6_often_1 : cX6_often.data.toList.drop 24 = dktX6_often_1 := dk_seg dksX6_often_0 24 rfl rfl
theorem dksX6_often_2 : cX6_often.data.toList.drop 47 = dktX6_often_2 := dk_seg dksX6_often_1 23 rfl rfl
theorem dksX6_often_3 : cX6_often.data.toList.drop 69 = dktX6_often_3 := dk_seg dksX6_often_2 22 rfl rfl
theorem dksX6_often_4 : cX6_often.data.toList.drop 91 = dktX6_often_4 := dk_seg dksX6_often_3 22 rfl rfl
theorem dX6_often_0 : decode cX6_often 0 = .ok (.iconst 0, 1) := dk_3 (dk_at dksX6_often_0 0 rfl rfl)
theorem dX6_often_1 : decode cX6_often 1 = .ok (.istore 4, 2) := dk_54 4 (dk_at dksX6_often_0 1 rfl rfl)
theorem dX6_often_3 : decode cX6_often 3 = .ok (.iconst 0, 1) := dk_3 (dk_at dksX6_often_0 3 rfl rfl)
theorem dX6_often_4 : decode cX6_often 4 = .ok (.istore 5, 2) := dk_54 5 (dk_at dksX6_often_0 4 rfl rfl)
theorem dX6_often_6 : decode cX6_often 6 = .ok (.iload 5, 2) := dk_21 5 (dk_at dksX6_often_0 6 rfl rfl)
theorem dX6_often_8 : decode cX6_often 8 = .ok (.aload_n 0, 1) := dk_42 (dk_at dksX6_often_0 8 rfl rfl)
theorem dX6_often_9 : decode cX6_often 9 = .ok (.getfield 82, 3) := dk_180 0 82 (dk_at dksX6_often_0 9 rfl rfl)
theorem dX6_often_12 : decode cX6_often 12 = .ok (.if_icmp .ge 91, 3) := dk_162 0 91 (dk_at dksX6_often_0 12 rfl rfl)
theorem dX6_often_15 : decode cX6_often 15 = .ok (.bipush 6, 2) := dk_16 6 (dk_at dksX6_often_0 15 rfl rfl)
theorem dX6_often_17 : decode cX6_often 17 = .ok (.iload 5, 2) := dk_21 5 (dk_at dksX6_often_0 17 rfl rfl)
theorem dX6_often_19 : decode cX6_often 19 = .ok (.imul, 1) := dk_104 (dk_at dksX6_often_0 19 rfl rfl)
theorem dX6_often_20 : decode cX6_often 20 = .ok (.istore 6, 2) := dk_54 6 (dk_at dksX6_often_0 20 rfl rfl)
theorem dX6_often_22 : decode cX6_often 22 = .ok (.iload 6, 2) := dk_21 6 (dk_at dksX6_often_0 22 rfl rfl)
theorem dX6_often_24 : decode cX6_often 24 = .ok (.bipush 6, 2) := dk_16 6 (dk_at dksX6_often_1 0 rfl rfl)
theorem dX6_often_26 : decode cX6_often 26 = .ok (.iload 5, 2) := dk_21 5 (dk_at dksX6_often_1 2 rfl rfl)
theorem dX6_often_28 : decode cX6_often 28 = .ok (.imul, 1) := dk_104 (dk_at dksX6_often_1 4 rfl rfl)
theorem dX6_often_29 : decode cX6_often 29 = .ok (.aload_n 0, 1) := dk_42 (dk_at dksX6_often_1 5 rfl rfl)
theorem dX6_often_30 : decode cX6_often 30 = .ok (.getfield 22, 3) := dk_180 0 22 (dk_at dksX6_often_1 6 rfl rfl)
theorem dX6_often_33 : decode cX6_often 33 = .ok (.iload 5, 2) := dk_21 5 (dk_at dksX6_often_1 9 rfl rfl)
theorem dX6_often_35 : decode cX6_often 35 = .ok (.iaload, 1) := dk_46 (dk_at dksX6_often_1 11 rfl rfl)
theorem dX6_often_36 : decode cX6_often 36 = .ok (.iadd, 1) := dk_96 (dk_at dksX6_often_1 12 rfl rfl)
theorem dX6_often_37 : decode cX6_often 37 = .ok (.if_icmp .ge 60, 3) := dk_162 0 60 (dk_at dksX6_often_1 13 rfl rfl)
theorem dX6_often_40 : decode cX6_often 40 = .ok (.aload_n 0, 1) := dk_42 (dk_at dksX6_often_1 16 rfl rfl)
theorem dX6_often_41 : decode cX6_often 41 = .ok (.getfield 25, 3) := dk_180 0 25 (dk_at dksX6_often_1 17 rfl rfl)
theorem dX6_often_44 : decode cX6_often 44 = .ok (.iload 5, 2) := dk_21 5 (dk_at dksX6_often_1 20 rfl rfl)
theorem dX6_often_46 : decode cX6_often 46 = .ok (.baload, 1) := dk_51 (dk_at dksX6_often_1 22 rfl rfl)
theorem dX6_often_47 : decode cX6_often 47 = .ok (.ifCond .eq 50, 3) := dk_153 0 50 (dk_at dksX6_often_2 0 rfl rfl)
theorem dX6_often_50 : decode cX6_often 50 = .ok (.iload 4, 2) := dk_21 4 (dk_at dksX6_often_2 3 rfl rfl)
theorem dX6_often_52 : decode cX6_often 52 = .ok (.aload_n 0, 1) := dk_42 (dk_at dksX6_often_2 5 rfl rfl)
theorem dX6_often_53 : decode cX6_often 53 = .ok (.getfield 16, 3) := dk_180 0 16 (dk_at dksX6_often_2 6 rfl rfl)
theorem dX6_often_56 : decode cX6_often 56 = .ok (.iload 6, 2) := dk_21 6 (dk_at dksX6_often_2 9 rfl rfl)
theorem dX6_often_58 : decode cX6_often 58 = .ok (.iaload, 1) := dk_46 (dk_at dksX6_often_2 11 rfl rfl)
theorem dX6_often_59 : decode cX6_often 59 = .ok (.iload_n 2, 1) := dk_28 (dk_at dksX6_often_2 12 rfl rfl)
theorem dX6_often_60 : decode cX6_often 60 = .ok (.irem, 1) := dk_112 (dk_at dksX6_often_2 13 rfl rfl)
theorem dX6_often_61 : decode cX6_often 61 = .ok (.iload_n 1, 1) := dk_27 (dk_at dksX6_often_2 14 rfl rfl)
theorem dX6_often_62 : decode cX6_often 62 = .ok (.iload_n 2, 1) := dk_28 (dk_at dksX6_often_2 15 rfl rfl)
theorem dX6_often_63 : decode cX6_often 63 = .ok (.irem, 1) := dk_112 (dk_at dksX6_often_2 16 rfl rfl)
theorem dX6_often_64 : decode cX6_often 64 = .ok (.if_icmp .ne 23, 3) := dk_160 0 23 (dk_at dksX6_often_2 17 rfl rfl)
theorem dX6_often_67 : decode cX6_often 67 = .ok (.iload_n 3, 1) := dk_29 (dk_at dksX6_often_2 20 rfl rfl)
theorem dX6_often_68 : decode cX6_often 68 = .ok (.iconst (-1), 1) := dk_2 (dk_at dksX6_often_2 21 rfl rfl)
theorem dX6_often_69 : decode cX6_often 69 = .ok (.if_icmp .eq 14, 3) := dk_159 0 14 (dk_at dksX6_often_3 0 rfl rfl)
theorem dX6_often_72 : decode cX6_often 72 = .ok (.aload_n 0, 1) := dk_42 (dk_at dksX6_often_3 3 rfl rfl)
theorem dX6_often_73 : decode cX6_often 73 = .ok (.getfield 19, 3) := dk_180 0 19 (dk_at dksX6_often_3 4 rfl rfl)
theorem dX6_often_76 : decode cX6_often 76 = .ok (.iload 6, 2) := dk_21 6 (dk_at dksX6_often_3 7 rfl rfl)
theorem dX6_often_78 : decode cX6_often 78 = .ok (.iaload, 1) := dk_46 (dk_at dksX6_often_3 9 rfl rfl)
theorem dX6_often_79 : decode cX6_often 79 = .ok (.iload_n 3, 1) := dk_29 (dk_at dksX6_often_3 10 rfl rfl)
theorem dX6_often_80 : decode cX6_often 80 = .ok (.if_icmp .ne 7, 3) := dk_160 0 7 (dk_at dksX6_often_3 11 rfl rfl)
theorem dX6_often_83 : decode cX6_often 83 = .ok (.iconst 1, 1) := dk_4 (dk_at dksX6_often_3 14 rfl rfl)
theorem dX6_often_84 : decode cX6_often 84 = .ok (.goto 4, 3) := dk_167 0 4 (dk_at dksX6_often_3 15 rfl rfl)
theorem dX6_often_87 : decode cX6_often 87 = .ok (.iconst 0, 1) := dk_3 (dk_at dksX6_often_3 18 rfl rfl)
theorem dX6_often_88 : decode cX6_often 88 = .ok (.iadd, 1) := dk_96 (dk_at dksX6_often_3 19 rfl rfl)
theorem dX6_often_89 : decode cX6_often 89 = .ok (.istore 4, 2) := dk_54 4 (dk_at dksX6_often_3 20 rfl rfl)
theorem dX6_often_91 : decode cX6_often 91 = .ok (.iinc 6 1, 3) := dk_132 6 1 (dk_at dksX6_often_4 0 rfl rfl)
theorem dX6_often_94 : decode cX6_often 94 = .ok (.goto (-72), 3) := dk_167 255 184 (dk_at dksX6_often_4 3 rfl rfl)
theorem dX6_often_97 : decode cX6_often 97 = .ok (.iinc 5 1, 3) := dk_132 5 1 (dk_at dksX6_often_4 6 rfl rfl)
theorem dX6_often_100 : decode cX6_often 100 = .ok (.goto (-94), 3) := dk_167 255 162 (dk_at dksX6_often_4 9 rfl rfl)
theorem dX6_often_103 : decode cX6_often 103 = .ok (.iload 4, 2) := dk_21 4 (dk_at dksX6_often_4 12 rfl rfl)
theorem dX6_often_105 : decode cX6_often 105 = .ok (.ireturn, 1) := dk_172 (dk_at dksX6_often_4 14 rfl rfl)
abbrev cX6_atMost : ByteArray := prog_13_method_16_code
def yX6_atMost : MethodName := ⟨RX6, "atMost", "(II)I"⟩
def dkwX6_atMost_0 : List UInt8 := [26, 27, 164, 0, 7, 27, 167, 0, 4, 26, 172]
abbrev dktX6_atMost_0 : List UInt8 := dkwX6_atMost_0 ++ []
theorem dksX6_atMost_0 : cX6_atMost.data.toList.drop 0 = dktX6_atMost_0 := by decide +kernel
theorem dX6_atMost_0 : decode cX6_atMost 0 = .ok (.iload_n 0, 1) := dk_26 (dk_at dksX6_atMost_0 0 rfl rfl)
theorem dX6_atMost_1 : decode cX6_atMost 1 = .ok (.iload_n 1, 1) := dk_27 (dk_at dksX6_atMost_0 1 rfl rfl)
theorem dX6_atMost_2 : decode cX6_atMost 2 = .ok (.if_icmp .le 7, 3) := dk_164 0 7 (dk_at dksX6_atMost_0 2 rfl rfl)
theorem dX6_atMost_5 : decode cX6_atMost 5 = .ok (.iload_n 1, 1) := dk_27 (dk_at dksX6_atMost_0 5 rfl rfl)
theorem dX6_atMost_6 : decode cX6_atMost 6 = .ok (.goto 4, 3) := dk_167 0 4 (dk_at dksX6_atMost_0 6 rfl rfl)
theorem dX6_atMost_9 : decode cX6_atMost 9 = .ok (.iload_n 0, 1) := dk_26 (dk_at dksX6_atMost_0 9 rfl rfl)
theorem dX6_atMost_10 : decode cX6_atMost 10 = .ok (.ireturn, 1) := dk_172 (dk_at dksX6_atMost_0 10 rfl rfl)
abbrev cX6_step : ByteArray := prog_13_method_25_code
def yX6_step : MethodName := ⟨RX6, "step", "(II)I"⟩
def dkwX6_step_1 : List UInt8 := [182, 0, 68, 153, 0, 12, 42, 27, 28, 182, 0, 102, 167, 0, 4, 3, 172]
abbrev dktX6_step_1 : List UInt8 := dkwX6_step_1 ++ []
def dkwX6_step_0 : List UInt8 := [42, 27, 2, 7, 184, 0, 58, 153, 0, 14, 28, 184, 0, 72, 153, 0, 7, 3, 167, 0, 4, 4]
abbrev dktX6_step_0 : List UInt8 := dkwX6_step_0 ++ dktX6_step_1
theorem dksX6_step_0 : cX6_step.data.toList.drop 0 = dktX6_step_0 := by decide +kernel
theorem dksX6_step_1 : cX6_step.data.toList.drop 22 = dktX6_step_1 := dk_seg dksX6_step_0 22 rfl rfl
theorem dX6_step_0 : decode cX6_step 0 = .ok (.aload_n 0, 1) := dk_42 (dk_at dksX6_step_0 0 rfl rfl)
theorem dX6_step_1 : decode cX6_step 1 = .ok (.iload_n 1, 1) := dk_27 (dk_at dksX6_step_0 1 rfl rfl)
theorem dX6_step_2 : decode cX6_step 2 = .ok (.iconst (-1), 1) := dk_2 (dk_at dksX6_step_0 2 rfl rfl)
theorem dX6_step_3 : decode cX6_step 3 = .ok (.iconst 4, 1) := dk_7 (dk_at dksX6_step_0 3 rfl rfl)
theorem dX6_step_4 : decode cX6_step 4 = .ok (.invokestatic 58, 3) := dk_184 0 58 (dk_at dksX6_step_0 4 rfl rfl)
theorem dX6_step_7 : decode cX6_step 7 = .ok (.ifCond .eq 14, 3) := dk_153 0 14 (dk_at dksX6_step_0 7 rfl rfl)
theorem dX6_step_10 : decode cX6_step 10 = .ok (.iload_n 2, 1) := dk_28 (dk_at dksX6_step_0 10 rfl rfl)
theorem dX6_step_11 : decode cX6_step 11 = .ok (.invokestatic 72, 3) := dk_184 0 72 (dk_at dksX6_step_0 11 rfl rfl)
theorem dX6_step_14 : decode cX6_step 14 = .ok (.ifCond .eq 7, 3) := dk_153 0 7 (dk_at dksX6_step_0 14 rfl rfl)
theorem dX6_step_17 : decode cX6_step 17 = .ok (.iconst 0, 1) := dk_3 (dk_at dksX6_step_0 17 rfl rfl)
theorem dX6_step_18 : decode cX6_step 18 = .ok (.goto 4, 3) := dk_167 0 4 (dk_at dksX6_step_0 18 rfl rfl)
theorem dX6_step_21 : decode cX6_step 21 = .ok (.iconst 1, 1) := dk_4 (dk_at dksX6_step_0 21 rfl rfl)
theorem dX6_step_22 : decode cX6_step 22 = .ok (.invokevirtual 68, 3) := dk_182 0 68 (dk_at dksX6_step_1 0 rfl rfl)
theorem dX6_step_25 : decode cX6_step 25 = .ok (.ifCond .eq 12, 3) := dk_153 0 12 (dk_at dksX6_step_1 3 rfl rfl)
theorem dX6_step_28 : decode cX6_step 28 = .ok (.aload_n 0, 1) := dk_42 (dk_at dksX6_step_1 6 rfl rfl)
theorem dX6_step_29 : decode cX6_step 29 = .ok (.iload_n 1, 1) := dk_27 (dk_at dksX6_step_1 7 rfl rfl)
theorem dX6_step_30 : decode cX6_step 30 = .ok (.iload_n 2, 1) := dk_28 (dk_at dksX6_step_1 8 rfl rfl)
theorem dX6_step_31 : decode cX6_step 31 = .ok (.invokevirtual 102, 3) := dk_182 0 102 (dk_at dksX6_step_1 9 rfl rfl)
theorem dX6_step_34 : decode cX6_step 34 = .ok (.goto 4, 3) := dk_167 0 4 (dk_at dksX6_step_1 12 rfl rfl)
theorem dX6_step_37 : decode cX6_step 37 = .ok (.iconst 0, 1) := dk_3 (dk_at dksX6_step_1 15 rfl rfl)
theorem dX6_step_38 : decode cX6_step 38 = .ok (.ireturn, 1) := dk_172 (dk_at dksX6_step_1 16 rfl rfl)
abbrev cX6_weightOf : ByteArray := prog_13_method_18_code
def yX6_weightOf : MethodName := ⟨RX6, "weightOf", "(II)I"⟩
def dkwX6_weightOf_4 : List UInt8 := [132, 5, 1, 167, 255, 176, 132, 4, 1, 167, 255, 158, 29, 16, 7, 184, 0, 93, 172]
abbrev dktX6_weightOf_4 : List UInt8 := dkwX6_weightOf_4 ++ []
def dkwX6_weightOf_3 : List UInt8 := [167, 0, 16, 42, 180, 0, 19, 21, 6, 4, 100, 46, 27, 160, 0, 7, 4, 167, 0, 4, 3, 96, 62]
abbrev dktX6_weightOf_3 : List UInt8 := dkwX6_weightOf_3 ++ dktX6_weightOf_4
def dkwX6_weightOf_2 : List UInt8 := [54, 6, 29, 42, 180, 0, 19, 21, 6, 46, 28, 160, 0, 33, 21, 5, 154, 0, 11, 27, 2, 160, 0, 23]
abbrev dktX6_weightOf_2 : List UInt8 := dkwX6_weightOf_2 ++ dktX6_weightOf_3
def dkwX6_weightOf_1 : List UInt8 := [21, 4, 46, 162, 0, 74, 42, 180, 0, 25, 21, 4, 51, 153, 0, 64, 16, 6, 21, 4, 104, 21, 5, 96]
abbrev dktX6_weightOf_1 : List UInt8 := dkwX6_weightOf_1 ++ dktX6_weightOf_2
def dkwX6_weightOf_0 : List UInt8 := [4, 62, 3, 54, 4, 21, 4, 42, 180, 0, 82, 162, 0, 95, 3, 54, 5, 21, 5, 42, 180, 0, 22]
abbrev dktX6_weightOf_0 : List UInt8 := dkwX6_weightOf_0 ++ dktX6_weightOf_1
theorem dksX6_weightOf_0 : cX6_weightOf.data.toList.drop 0 = dktX6_weightOf_0 := by decide +kernel
theorem dksX6_weightOf_1 : cX6_weightOf.data.toList.drop 23 = dktX6_weightOf_1 := dk_seg dksX6_weightOf_0 23 rfl rfl
theorem dksX6_weightOf_2 : cX6_weightOf.data.toList.drop 47 = dktX6_weightOf_2 := dk_seg dksX6_weightOf_1 24 rfl rfl
theorem dksX6_weightOf_3 : cX6_weightOf.data.toList.drop 71 = dktX6_weightOf_3 := dk_seg dksX6_weightOf_2 24 rfl rfl
theorem dksX6_weightOf_4 : cX6_weightOf.data.toList.drop 94 = dktX6_weightOf_4 := dk_seg dksX6_weightOf_3 23 rfl rfl
theorem dX6_weightOf_0 : decode cX6_weightOf 0 = .ok (.iconst 1, 1) := dk_4 (dk_at dksX6_weightOf_0 0 rfl rfl)
theorem dX6_weightOf_1 : decode cX6_weightOf 1 = .ok (.istore_n 3, 1) := dk_62 (dk_at dksX6_weightOf_0 1 rfl rfl)
theorem dX6_weightOf_2 : decode cX6_weightOf 2 = .ok (.iconst 0, 1) := dk_3 (dk_at dksX6_weightOf_0 2 rfl rfl)
theorem dX6_weightOf_3 : decode cX6_weightOf 3 = .ok (.istore 4, 2) := dk_54 4 (dk_at dksX6_weightOf_0 3 rfl rfl)
theorem dX6_weightOf_5 : decode cX6_weightOf 5 = .ok (.iload 4, 2) := dk_21 4 (dk_at dksX6_weightOf_0 5 rfl rfl)
theorem dX6_weightOf_7 : decode cX6_weightOf 7 = .ok (.aload_n 0, 1) := dk_42 (dk_at dksX6_weightOf_0 7 rfl rfl)
theorem dX6_weightOf_8 : decode cX6_weightOf 8 = .ok (.getfield 82, 3) := dk_180 0 82 (dk_at dksX6_weightOf_0 8 rfl rfl)
theorem dX6_weightOf_11 : decode cX6_weightOf 11 = .ok (.if_icmp .ge 95, 3) := dk_162 0 95 (dk_at dksX6_weightOf_0 11 rfl rfl)
theorem dX6_weightOf_14 : decode cX6_weightOf 14 = .ok (.iconst 0, 1) := dk_3 (dk_at dksX6_weightOf_0 14 rfl rfl)
theorem dX6_weightOf_15 : decode cX6_weightOf 15 = .ok (.istore 5, 2) := dk_54 5 (dk_at dksX6_weightOf_0 15 rfl rfl)
theorem dX6_weightOf_17 : decode cX6_weightOf 17 = .ok (.iload 5, 2) := dk_21 5 (dk_at dksX6_weightOf_0 17 rfl rfl)
theorem dX6_weightOf_19 : decode cX6_weightOf 19 = .ok (.aload_n 0, 1) := dk_42 (dk_at dksX6_weightOf_0 19 rfl rfl)
theorem dX6_weightOf_20 : decode cX6_weightOf 20 = .ok (.getfield 22, 3) := dk_180 0 22 (dk_at dksX6_weightOf_0 20 rfl rfl)
theorem dX6_weightOf_23 : decode cX6_weightOf 23 = .ok (.iload 4, 2) := dk_21 4 (dk_at dksX6_weightOf_1 0 rfl rfl)
theorem dX6_weightOf_25 : decode cX6_weightOf 25 = .ok (.iaload, 1) := dk_46 (dk_at dksX6_weightOf_1 2 rfl rfl)
theorem dX6_weightOf_26 : decode cX6_weightOf 26 = .ok (.if_icmp .ge 74, 3) := dk_162 0 74 (dk_at dksX6_weightOf_1 3 rfl rfl)
theorem dX6_weightOf_29 : decode cX6_weightOf 29 = .ok (.aload_n 0, 1) := dk_42 (dk_at dksX6_weightOf_1 6 rfl rfl)
theorem dX6_weightOf_30 : decode cX6_weightOf 30 = .ok (.getfield 25, 3) := dk_180 0 25 (dk_at dksX6_weightOf_1 7 rfl rfl)
theorem dX6_weightOf_33 : decode cX6_weightOf 33 = .ok (.iload 4, 2) := dk_21 4 (dk_at dksX6_weightOf_1 10 rfl rfl)
theorem dX6_weightOf_35 : decode cX6_weightOf 35 = .ok (.baload, 1) := dk_51 (dk_at dksX6_weightOf_1 12 rfl rfl)
theorem dX6_weightOf_36 : decode cX6_weightOf 36 = .ok (.ifCond .eq 64, 3) := dk_153 0 64 (dk_at dksX6_weightOf_1 13 rfl rfl)
theorem dX6_weightOf_39 : decode cX6_weightOf 39 = .ok (.bipush 6, 2) := dk_16 6 (dk_at dksX6_weightOf_1 16 rfl rfl)
theorem dX6_weightOf_41 : decode cX6_weightOf 41 = .ok (.iload 4, 2) := dk_21 4 (dk_at dksX6_weightOf_1 18 rfl rfl)
theorem dX6_weightOf_43 : decode cX6_weightOf 43 = .ok (.imul, 1) := dk_104 (dk_at dksX6_weightOf_1 20 rfl rfl)
theorem dX6_weightOf_44 : decode cX6_weightOf 44 = .ok (.iload 5, 2) := dk_21 5 (dk_at dksX6_weightOf_1 21 rfl rfl)
theorem dX6_weightOf_46 : decode cX6_weightOf 46 = .ok (.iadd, 1) := dk_96 (dk_at dksX6_weightOf_1 23 rfl rfl)
theorem dX6_weightOf_47 : decode cX6_weightOf 47 = .ok (.istore 6, 2) := dk_54 6 (dk_at dksX6_weightOf_2 0 rfl rfl)
theorem dX6_weightOf_49 : decode cX6_weightOf 49 = .ok (.iload_n 3, 1) := dk_29 (dk_at dksX6_weightOf_2 2 rfl rfl)
theorem dX6_weightOf_50 : decode cX6_weightOf 50 = .ok (.aload_n 0, 1) := dk_42 (dk_at dksX6_weightOf_2 3 rfl rfl)
theorem dX6_weightOf_51 : decode cX6_weightOf 51 = .ok (.getfield 19, 3) := dk_180 0 19 (dk_at dksX6_weightOf_2 4 rfl rfl)
theorem dX6_weightOf_54 : decode cX6_weightOf 54 = .ok (.iload 6, 2) := dk_21 6 (dk_at dksX6_weightOf_2 7 rfl rfl)
theorem dX6_weightOf_56 : decode cX6_weightOf 56 = .ok (.iaload, 1) := dk_46 (dk_at dksX6_weightOf_2 9 rfl rfl)
theorem dX6_weightOf_57 : decode cX6_weightOf 57 = .ok (.iload_n 2, 1) := dk_28 (dk_at dksX6_weightOf_2 10 rfl rfl)
theorem dX6_weightOf_58 : decode cX6_weightOf 58 = .ok (.if_icmp .ne 33, 3) := dk_160 0 33 (dk_at dksX6_weightOf_2 11 rfl rfl)
theorem dX6_weightOf_61 : decode cX6_weightOf 61 = .ok (.iload 5, 2) := dk_21 5 (dk_at dksX6_weightOf_2 14 rfl rfl)
theorem dX6_weightOf_63 : decode cX6_weightOf 63 = .ok (.ifCond .ne 11, 3) := dk_154 0 11 (dk_at dksX6_weightOf_2 16 rfl rfl)
theorem dX6_weightOf_66 : decode cX6_weightOf 66 = .ok (.iload_n 1, 1) := dk_27 (dk_at dksX6_weightOf_2 19 rfl rfl)
theorem dX6_weightOf_67 : decode cX6_weightOf 67 = .ok (.iconst (-1), 1) := dk_2 (dk_at dksX6_weightOf_2 20 rfl rfl)
theorem dX6_weightOf_68 : decode cX6_weightOf 68 = .ok (.if_icmp .ne 23, 3) := dk_160 0 23 (dk_at dksX6_weightOf_2 21 rfl rfl)
theorem dX6_weightOf_71 : decode cX6_weightOf 71 = .ok (.goto 16, 3) := dk_167 0 16 (dk_at dksX6_weightOf_3 0 rfl rfl)
theorem dX6_weightOf_74 : decode cX6_weightOf 74 = .ok (.aload_n 0, 1) := dk_42 (dk_at dksX6_weightOf_3 3 rfl rfl)
theorem dX6_weightOf_75 : decode cX6_weightOf 75 = .ok (.getfield 19, 3) := dk_180 0 19 (dk_at dksX6_weightOf_3 4 rfl rfl)
theorem dX6_weightOf_78 : decode cX6_weightOf 78 = .ok (.iload 6, 2) := dk_21 6 (dk_at dksX6_weightOf_3 7 rfl rfl)
theorem dX6_weightOf_80 : decode cX6_weightOf 80 = .ok (.iconst 1, 1) := dk_4 (dk_at dksX6_weightOf_3 9 rfl rfl)
theorem dX6_weightOf_81 : decode cX6_weightOf 81 = .ok (.isub, 1) := dk_100 (dk_at dksX6_weightOf_3 10 rfl rfl)
theorem dX6_weightOf_82 : decode cX6_weightOf 82 = .ok (.iaload, 1) := dk_46 (dk_at dksX6_weightOf_3 11 rfl rfl)
theorem dX6_weightOf_83 : decode cX6_weightOf 83 = .ok (.iload_n 1, 1) := dk_27 (dk_at dksX6_weightOf_3 12 rfl rfl)
theorem dX6_weightOf_84 : decode cX6_weightOf 84 = .ok (.if_icmp .ne 7, 3) := dk_160 0 7 (dk_at dksX6_weightOf_3 13 rfl rfl)
theorem dX6_weightOf_87 : decode cX6_weightOf 87 = .ok (.iconst 1, 1) := dk_4 (dk_at dksX6_weightOf_3 16 rfl rfl)
theorem dX6_weightOf_88 : decode cX6_weightOf 88 = .ok (.goto 4, 3) := dk_167 0 4 (dk_at dksX6_weightOf_3 17 rfl rfl)
theorem dX6_weightOf_91 : decode cX6_weightOf 91 = .ok (.iconst 0, 1) := dk_3 (dk_at dksX6_weightOf_3 20 rfl rfl)
theorem dX6_weightOf_92 : decode cX6_weightOf 92 = .ok (.iadd, 1) := dk_96 (dk_at dksX6_weightOf_3 21 rfl rfl)
theorem dX6_weightOf_93 : decode cX6_weightOf 93 = .ok (.istore_n 3, 1) := dk_62 (dk_at dksX6_weightOf_3 22 rfl rfl)
theorem dX6_weightOf_94 : decode cX6_weightOf 94 = .ok (.iinc 5 1, 3) := dk_132 5 1 (dk_at dksX6_weightOf_4 0 rfl rfl)
theorem dX6_weightOf_97 : decode cX6_weightOf 97 = .ok (.goto (-80), 3) := dk_167 255 176 (dk_at dksX6_weightOf_4 3 rfl rfl)
theorem dX6_weightOf_100 : decode cX6_weightOf 100 = .ok (.iinc 4 1, 3) := dk_132 4 1 (dk_at dksX6_weightOf_4 6 rfl rfl)
theorem dX6_weightOf_103 : decode cX6_weightOf 103 = .ok (.goto (-98), 3) := dk_167 255 158 (dk_at dksX6_weightOf_4 9 rfl rfl)
theorem dX6_weightOf_106 : decode cX6_weightOf 106 = .ok (.iload_n 3, 1) := dk_29 (dk_at dksX6_weightOf_4 12 rfl rfl)
theorem dX6_weightOf_107 : decode cX6_weightOf 107 = .ok (.bipush 7, 2) := dk_16 7 (dk_at dksX6_weightOf_4 13 rfl rfl)
theorem dX6_weightOf_109 : decode cX6_weightOf 109 = .ok (.invokestatic 93, 3) := dk_184 0 93 (dk_at dksX6_weightOf_4 15 rfl rfl)
theorem dX6_weightOf_112 : decode cX6_weightOf 112 = .ok (.ireturn, 1) := dk_172 (dk_at dksX6_weightOf_4 18 rfl rfl)
abbrev cX6_path : ByteArray := prog_13_method_28_code
def yX6_path : MethodName := ⟨RX6, "path", "(II)I"⟩
def dkwX6_path_0 : List UInt8 := [42, 27, 28, 182, 0, 135, 172]
abbrev dktX6_path_0 : List UInt8 := dkwX6_path_0 ++ []
theorem dksX6_path_0 : cX6_path.data.toList.drop 0 = dktX6_path_0 := by decide +kernel
theorem dX6_path_0 : decode cX6_path 0 = .ok (.aload_n 0, 1) := dk_42 (dk_at dksX6_path_0 0 rfl rfl)
theorem dX6_path_1 : decode cX6_path 1 = .ok (.iload_n 1, 1) := dk_27 (dk_at dksX6_path_0 1 rfl rfl)
theorem dX6_path_2 : decode cX6_path 2 = .ok (.iload_n 2, 1) := dk_28 (dk_at dksX6_path_0 2 rfl rfl)
theorem dX6_path_3 : decode cX6_path 3 = .ok (.invokevirtual 135, 3) := dk_182 0 135 (dk_at dksX6_path_0 3 rfl rfl)
theorem dX6_path_6 : decode cX6_path 6 = .ok (.ireturn, 1) := dk_172 (dk_at dksX6_path_0 6 rfl rfl)
abbrev cX6_onPath : ByteArray := prog_13_method_27_code
def yX6_onPath : MethodName := ⟨RX6, "onPath", "(II)I"⟩
def dkwX6_onPath_2 : List UInt8 := [27, 46, 28, 182, 0, 105, 167, 0, 4, 2, 172]
abbrev dktX6_onPath_2 : List UInt8 := dkwX6_onPath_2 ++ []
def dkwX6_onPath_1 : List UInt8 := [154, 0, 5, 3, 172, 42, 3, 3, 182, 0, 131, 27, 42, 180, 0, 111, 162, 0, 17, 42, 42, 180, 0, 48]
abbrev dktX6_onPath_1 : List UInt8 := dkwX6_onPath_1 ++ dktX6_onPath_2
def dkwX6_onPath_0 : List UInt8 := [42, 27, 184, 0, 128, 153, 0, 15, 42, 28, 182, 0, 85, 153, 0, 7, 3, 167, 0, 4, 4, 182, 0, 68]
abbrev dktX6_onPath_0 : List UInt8 := dkwX6_onPath_0 ++ dktX6_onPath_1
theorem dksX6_onPath_0 : cX6_onPath.data.toList.drop 0 = dktX6_onPath_0 := by decide +kernel
theorem dksX6_onPath_1 : cX6_onPath.data.toList.drop 24 = dktX6_onPath_1 := dk_seg dksX6_onPath_0 24 rfl rfl
theorem dksX6_onPath_2 : cX6_onPath.data.toList.drop 48 = dktX6_onPath_2 := dk_seg dksX6_onPath_1 24 rfl rfl
theorem dX6_onPath_0 : decode cX6_onPath 0 = .ok (.aload_n 0, 1) := dk_42 (dk_at dksX6_onPath_0 0 rfl rfl)
theorem dX6_onPath_1 : decode cX6_onPath 1 = .ok (.iload_n 1, 1) := dk_27 (dk_at dksX6_onPath_0 1 rfl rfl)
theorem dX6_onPath_2 : decode cX6_onPath 2 = .ok (.invokestatic 128, 3) := dk_184 0 128 (dk_at dksX6_onPath_0 2 rfl rfl)
theorem dX6_onPath_5 : decode cX6_onPath 5 = .ok (.ifCond .eq 15, 3) := dk_153 0 15 (dk_at dksX6_onPath_0 5 rfl rfl)
theorem dX6_onPath_8 : decode cX6_onPath 8 = .ok (.aload_n 0, 1) := dk_42 (dk_at dksX6_onPath_0 8 rfl rfl)
theorem dX6_onPath_9 : decode cX6_onPath 9 = .ok (.iload_n 2, 1) := dk_28 (dk_at dksX6_onPath_0 9 rfl rfl)
theorem dX6_onPath_10 : decode cX6_onPath 10 = .ok (.invokevirtual 85, 3) := dk_182 0 85 (dk_at dksX6_onPath_0 10 rfl rfl)
theorem dX6_onPath_13 : decode cX6_onPath 13 = .ok (.ifCond .eq 7, 3) := dk_153 0 7 (dk_at dksX6_onPath_0 13 rfl rfl)
theorem dX6_onPath_16 : decode cX6_onPath 16 = .ok (.iconst 0, 1) := dk_3 (dk_at dksX6_onPath_0 16 rfl rfl)
theorem dX6_onPath_17 : decode cX6_onPath 17 = .ok (.goto 4, 3) := dk_167 0 4 (dk_at dksX6_onPath_0 17 rfl rfl)
theorem dX6_onPath_20 : decode cX6_onPath 20 = .ok (.iconst 1, 1) := dk_4 (dk_at dksX6_onPath_0 20 rfl rfl)
theorem dX6_onPath_21 : decode cX6_onPath 21 = .ok (.invokevirtual 68, 3) := dk_182 0 68 (dk_at dksX6_onPath_0 21 rfl rfl)
theorem dX6_onPath_24 : decode cX6_onPath 24 = .ok (.ifCond .ne 5, 3) := dk_154 0 5 (dk_at dksX6_onPath_1 0 rfl rfl)
theorem dX6_onPath_27 : decode cX6_onPath 27 = .ok (.iconst 0, 1) := dk_3 (dk_at dksX6_onPath_1 3 rfl rfl)
theorem dX6_onPath_28 : decode cX6_onPath 28 = .ok (.ireturn, 1) := dk_172 (dk_at dksX6_onPath_1 4 rfl rfl)
theorem dX6_onPath_29 : decode cX6_onPath 29 = .ok (.aload_n 0, 1) := dk_42 (dk_at dksX6_onPath_1 5 rfl rfl)
theorem dX6_onPath_30 : decode cX6_onPath 30 = .ok (.iconst 0, 1) := dk_3 (dk_at dksX6_onPath_1 6 rfl rfl)
theorem dX6_onPath_31 : decode cX6_onPath 31 = .ok (.iconst 0, 1) := dk_3 (dk_at dksX6_onPath_1 7 rfl rfl)
theorem dX6_onPath_32 : decode cX6_onPath 32 = .ok (.invokevirtual 131, 3) := dk_182 0 131 (dk_at dksX6_onPath_1 8 rfl rfl)
theorem dX6_onPath_35 : decode cX6_onPath 35 = .ok (.iload_n 1, 1) := dk_27 (dk_at dksX6_onPath_1 11 rfl rfl)
theorem dX6_onPath_36 : decode cX6_onPath 36 = .ok (.aload_n 0, 1) := dk_42 (dk_at dksX6_onPath_1 12 rfl rfl)
theorem dX6_onPath_37 : decode cX6_onPath 37 = .ok (.getfield 111, 3) := dk_180 0 111 (dk_at dksX6_onPath_1 13 rfl rfl)
theorem dX6_onPath_40 : decode cX6_onPath 40 = .ok (.if_icmp .ge 17, 3) := dk_162 0 17 (dk_at dksX6_onPath_1 16 rfl rfl)
theorem dX6_onPath_43 : decode cX6_onPath 43 = .ok (.aload_n 0, 1) := dk_42 (dk_at dksX6_onPath_1 19 rfl rfl)
theorem dX6_onPath_44 : decode cX6_onPath 44 = .ok (.aload_n 0, 1) := dk_42 (dk_at dksX6_onPath_1 20 rfl rfl)
theorem dX6_onPath_45 : decode cX6_onPath 45 = .ok (.getfield 48, 3) := dk_180 0 48 (dk_at dksX6_onPath_1 21 rfl rfl)
theorem dX6_onPath_48 : decode cX6_onPath 48 = .ok (.iload_n 1, 1) := dk_27 (dk_at dksX6_onPath_2 0 rfl rfl)
theorem dX6_onPath_49 : decode cX6_onPath 49 = .ok (.iaload, 1) := dk_46 (dk_at dksX6_onPath_2 1 rfl rfl)
theorem dX6_onPath_50 : decode cX6_onPath 50 = .ok (.iload_n 2, 1) := dk_28 (dk_at dksX6_onPath_2 2 rfl rfl)
theorem dX6_onPath_51 : decode cX6_onPath 51 = .ok (.invokevirtual 105, 3) := dk_182 0 105 (dk_at dksX6_onPath_2 3 rfl rfl)
theorem dX6_onPath_54 : decode cX6_onPath 54 = .ok (.goto 4, 3) := dk_167 0 4 (dk_at dksX6_onPath_2 6 rfl rfl)
theorem dX6_onPath_57 : decode cX6_onPath 57 = .ok (.iconst (-1), 1) := dk_2 (dk_at dksX6_onPath_2 9 rfl rfl)
theorem dX6_onPath_58 : decode cX6_onPath 58 = .ok (.ireturn, 1) := dk_172 (dk_at dksX6_onPath_2 10 rfl rfl)
abbrev cX6_isRank : ByteArray := prog_13_method_26_code
def yX6_isRank : MethodName := ⟨RX6, "isRank", "(I)Z"⟩
def dkwX6_isRank_0 : List UInt8 := [26, 3, 16, 9, 184, 0, 58, 172]
abbrev dktX6_isRank_0 : List UInt8 := dkwX6_isRank_0 ++ []
theorem dksX6_isRank_0 : cX6_isRank.data.toList.drop 0 = dktX6_isRank_0 := by decide +kernel
theorem dX6_isRank_0 : decode cX6_isRank 0 = .ok (.iload_n 0, 1) := dk_26 (dk_at dksX6_isRank_0 0 rfl rfl)
theorem dX6_isRank_1 : decode cX6_isRank 1 = .ok (.iconst 0, 1) := dk_3 (dk_at dksX6_isRank_0 1 rfl rfl)
theorem dX6_isRank_2 : decode cX6_isRank 2 = .ok (.bipush 9, 2) := dk_16 9 (dk_at dksX6_isRank_0 2 rfl rfl)
theorem dX6_isRank_4 : decode cX6_isRank 4 = .ok (.invokestatic 58, 3) := dk_184 0 58 (dk_at dksX6_isRank_0 4 rfl rfl)
theorem dX6_isRank_7 : decode cX6_isRank 7 = .ok (.ireturn, 1) := dk_172 (dk_at dksX6_isRank_0 7 rfl rfl)
abbrev cX6_goes : ByteArray := prog_13_method_23_code
def yX6_goes : MethodName := ⟨RX6, "goes", "(II)V"⟩
def dkwX6_goes_9 : List UInt8 := [79, 132, 3, 1, 167, 255, 63, 177]
abbrev dktX6_goes_9 : List UInt8 := dkwX6_goes_9 ++ []
def dkwX6_goes_8 : List UInt8 := [46, 79, 132, 7, 255, 167, 255, 214, 42, 180, 0, 45, 21, 6, 22, 4, 80, 42, 180, 0, 48, 21, 6, 29]
abbrev dktX6_goes_8 : List UInt8 := dkwX6_goes_8 ++ dktX6_goes_9
def dkwX6_goes_7 : List UInt8 := [42, 180, 0, 45, 21, 7, 4, 100, 47, 80, 42, 180, 0, 48, 21, 7, 42, 180, 0, 48, 21, 7, 4, 100]
abbrev dktX6_goes_7 : List UInt8 := dkwX6_goes_7 ++ dktX6_goes_8
def dkwX6_goes_6 : List UInt8 := [181, 0, 111, 42, 180, 0, 111, 4, 100, 54, 7, 21, 7, 21, 6, 164, 0, 41, 42, 180, 0, 45, 21, 7]
abbrev dktX6_goes_6 : List UInt8 := dkwX6_goes_6 ++ dktX6_goes_7
def dkwX6_goes_5 : List UInt8 := [162, 0, 96, 42, 89, 180, 0, 111, 42, 180, 0, 111, 16, 10, 162, 0, 7, 4, 167, 0, 4, 3, 96]
abbrev dktX6_goes_5 : List UInt8 := dkwX6_goes_5 ++ dktX6_goes_6
def dkwX6_goes_4 : List UInt8 := [22, 4, 148, 156, 0, 9, 132, 6, 255, 167, 255, 233, 22, 4, 9, 148, 158, 0, 103, 21, 6, 16, 10]
abbrev dktX6_goes_4 : List UInt8 := dkwX6_goes_4 ++ dktX6_goes_5
def dkwX6_goes_3 : List UInt8 := [181, 0, 118, 42, 180, 0, 111, 54, 6, 21, 6, 158, 0, 24, 42, 180, 0, 45, 21, 6, 4, 100, 47]
abbrev dktX6_goes_3 : List UInt8 := dkwX6_goes_3 ++ dktX6_goes_4
def dkwX6_goes_2 : List UInt8 := [42, 89, 180, 0, 118, 42, 29, 27, 182, 0, 105, 28, 160, 0, 8, 22, 4, 167, 0, 4, 9, 97]
abbrev dktX6_goes_2 : List UInt8 := dkwX6_goes_2 ++ dktX6_goes_3
def dkwX6_goes_1 : List UInt8 := [182, 0, 121, 162, 0, 191, 42, 29, 182, 0, 124, 55, 4, 42, 89, 180, 0, 114, 22, 4, 97, 181, 0, 114]
abbrev dktX6_goes_1 : List UInt8 := dkwX6_goes_1 ++ dktX6_goes_2
def dkwX6_goes_0 : List UInt8 := [42, 182, 0, 108, 42, 3, 181, 0, 111, 42, 9, 181, 0, 114, 42, 9, 181, 0, 118, 3, 62, 29, 42]
abbrev dktX6_goes_0 : List UInt8 := dkwX6_goes_0 ++ dktX6_goes_1
theorem dksX6_goes_0 : cX6_goes.data.toList.drop 0 = dktX6_goes_0 := by decide +kernel
theorem dksX6_goes_1 : cX6_goes.data.toList.drop 23 = dktX6_goes_1 := dk_seg dksX6_goes_0 23 rfl rfl
theorem dksX6_goes_2 : cX6_goes.data.toList.drop 47 = dktX6_goes_2 := dk_seg dksX6_goes_1 24 rfl rfl
theorem dksX6_goes_3 : cX6_goes.data.toList.drop 69 = dktX6_goes_3 := dk_seg dksX6_goes_2 22 rfl rfl
theorem dksX6_goes_4 : cX6_goes.data.toList.drop 92 = dktX6_goes_4 := dk_seg dksX6_goes_3 23 rfl rfl
theorem dksX6_goes_5 : cX6_goes.data.toList.drop 115 = dktX6_goes_5 := dk_seg dksX6_goes_4 23 rfl rfl
theorem dksX6_goes_6 : cX6_goes.data.toList.drop 138 = dktX6_goes_6 := dk_seg dksX6_goes_5 23 rfl rfl
theorem dksX6_goes_7 : cX6_goes.data.toList.drop 162 = dktX6_goes_7 := dk_seg dksX6_goes_6 24 rfl rfl
theorem dksX6_goes_8 : cX6_goes.data.toList.drop 186 = dktX6_goes_8 := dk_seg dksX6_goes_7 24 rfl rfl
theorem dksX6_goes_9 : cX6_goes.data.toList.drop 210 = dktX6_goes_9 := dk_seg dksX6_goes_8 24 rfl rfl
theorem dX6_goes_0 : decode cX6_goes 0 = .ok (.aload_n 0, 1) := dk_42 (dk_at dksX6_goes_0 0 rfl rfl)
theorem dX6_goes_1 : decode cX6_goes 1 = .ok (.invokevirtual 108, 3) := dk_182 0 108 (dk_at dksX6_goes_0 1 rfl rfl)
theorem dX6_goes_4 : decode cX6_goes 4 = .ok (.aload_n 0, 1) := dk_42 (dk_at dksX6_goes_0 4 rfl rfl)
theorem dX6_goes_5 : decode cX6_goes 5 = .ok (.iconst 0, 1) := dk_3 (dk_at dksX6_goes_0 5 rfl rfl)
theorem dX6_goes_6 : decode cX6_goes 6 = .ok (.putfield 111, 3) := dk_181 0 111 (dk_at dksX6_goes_0 6 rfl rfl)
theorem dX6_goes_9 : decode cX6_goes 9 = .ok (.aload_n 0, 1) := dk_42 (dk_at dksX6_goes_0 9 rfl rfl)
theorem dX6_goes_10 : decode cX6_goes 10 = .ok (.lconst 0, 1) := dk_9 (dk_at dksX6_goes_0 10 rfl rfl)
theorem dX6_goes_11 : decode cX6_goes 11 = .ok (.putfield 114, 3) := dk_181 0 114 (dk_at dksX6_goes_0 11 rfl rfl)
theorem dX6_goes_14 : decode cX6_goes 14 = .ok (.aload_n 0, 1) := dk_42 (dk_at dksX6_goes_0 14 rfl rfl)
theorem dX6_goes_15 : decode cX6_goes 15 = .ok (.lconst 0, 1) := dk_9 (dk_at dksX6_goes_0 15 rfl rfl)
theorem dX6_goes_16 : decode cX6_goes 16 = .ok (.putfield 118, 3) := dk_181 0 118 (dk_at dksX6_goes_0 16 rfl rfl)
theorem dX6_goes_19 : decode cX6_goes 19 = .ok (.iconst 0, 1) := dk_3 (dk_at dksX6_goes_0 19 rfl rfl)
theorem dX6_goes_20 : decode cX6_goes 20 = .ok (.istore_n 3, 1) := dk_62 (dk_at dksX6_goes_0 20 rfl rfl)
theorem dX6_goes_21 : decode cX6_goes 21 = .ok (.iload_n 3, 1) := dk_29 (dk_at dksX6_goes_0 21 rfl rfl)
theorem dX6_goes_22 : decode cX6_goes 22 = .ok (.aload_n 0, 1) := dk_42 (dk_at dksX6_goes_0 22 rfl rfl)
theorem dX6_goes_23 : decode cX6_goes 23 = .ok (.invokevirtual 121, 3) := dk_182 0 121 (dk_at dksX6_goes_1 0 rfl rfl)
theorem dX6_goes_26 : decode cX6_goes 26 = .ok (.if_icmp .ge 191, 3) := dk_162 0 191 (dk_at dksX6_goes_1 3 rfl rfl)
theorem dX6_goes_29 : decode cX6_goes 29 = .ok (.aload_n 0, 1) := dk_42 (dk_at dksX6_goes_1 6 rfl rfl)
theorem dX6_goes_30 : decode cX6_goes 30 = .ok (.iload_n 3, 1) := dk_29 (dk_at dksX6_goes_1 7 rfl rfl)
theorem dX6_goes_31 : decode cX6_goes 31 = .ok (.invokevirtual 124, 3) := dk_182 0 124 (dk_at dksX6_goes_1 8 rfl rfl)
theorem dX6_goes_34 : decode cX6_goes 34 = .ok (.lstore 4, 2) := dk_55 4 (dk_at dksX6_goes_1 11 rfl rfl)
theorem dX6_goes_36 : decode cX6_goes 36 = .ok (.aload_n 0, 1) := dk_42 (dk_at dksX6_goes_1 13 rfl rfl)
theorem dX6_goes_37 : decode cX6_goes 37 = .ok (.dup, 1) := dk_89 (dk_at dksX6_goes_1 14 rfl rfl)
theorem dX6_goes_38 : decode cX6_goes 38 = .ok (.getfield 114, 3) := dk_180 0 114 (dk_at dksX6_goes_1 15 rfl rfl)
theorem dX6_goes_41 : decode cX6_goes 41 = .ok (.lload 4, 2) := dk_22 4 (dk_at dksX6_goes_1 18 rfl rfl)
theorem dX6_goes_43 : decode cX6_goes 43 = .ok (.ladd, 1) := dk_97 (dk_at dksX6_goes_1 20 rfl rfl)
theorem dX6_goes_44 : decode cX6_goes 44 = .ok (.putfield 114, 3) := dk_181 0 114 (dk_at dksX6_goes_1 21 rfl rfl)
theorem dX6_goes_47 : decode cX6_goes 47 = .ok (.aload_n 0, 1) := dk_42 (dk_at dksX6_goes_2 0 rfl rfl)
theorem dX6_goes_48 : decode cX6_goes 48 = .ok (.dup, 1) := dk_89 (dk_at dksX6_goes_2 1 rfl rfl)
theorem dX6_goes_49 : decode cX6_goes 49 = .ok (.getfield 118, 3) := dk_180 0 118 (dk_at dksX6_goes_2 2 rfl rfl)
theorem dX6_goes_52 : decode cX6_goes 52 = .ok (.aload_n 0, 1) := dk_42 (dk_at dksX6_goes_2 5 rfl rfl)
theorem dX6_goes_53 : decode cX6_goes 53 = .ok (.iload_n 3, 1) := dk_29 (dk_at dksX6_goes_2 6 rfl rfl)
theorem dX6_goes_54 : decode cX6_goes 54 = .ok (.iload_n 1, 1) := dk_27 (dk_at dksX6_goes_2 7 rfl rfl)
theorem dX6_goes_55 : decode cX6_goes 55 = .ok (.invokevirtual 105, 3) := dk_182 0 105 (dk_at dksX6_goes_2 8 rfl rfl)
theorem dX6_goes_58 : decode cX6_goes 58 = .ok (.iload_n 2, 1) := dk_28 (dk_at dksX6_goes_2 11 rfl rfl)
theorem dX6_goes_59 : decode cX6_goes 59 = .ok (.if_icmp .ne 8, 3) := dk_160 0 8 (dk_at dksX6_goes_2 12 rfl rfl)
theorem dX6_goes_62 : decode cX6_goes 62 = .ok (.lload 4, 2) := dk_22 4 (dk_at dksX6_goes_2 15 rfl rfl)
theorem dX6_goes_64 : decode cX6_goes 64 = .ok (.goto 4, 3) := dk_167 0 4 (dk_at dksX6_goes_2 17 rfl rfl)
theorem dX6_goes_67 : decode cX6_goes 67 = .ok (.lconst 0, 1) := dk_9 (dk_at dksX6_goes_2 20 rfl rfl)
theorem dX6_goes_68 : decode cX6_goes 68 = .ok (.ladd, 1) := dk_97 (dk_at dksX6_goes_2 21 rfl rfl)
theorem dX6_goes_69 : decode cX6_goes 69 = .ok (.putfield 118, 3) := dk_181 0 118 (dk_at dksX6_goes_3 0 rfl rfl)
theorem dX6_goes_72 : decode cX6_goes 72 = .ok (.aload_n 0, 1) := dk_42 (dk_at dksX6_goes_3 3 rfl rfl)
theorem dX6_goes_73 : decode cX6_goes 73 = .ok (.getfield 111, 3) := dk_180 0 111 (dk_at dksX6_goes_3 4 rfl rfl)
theorem dX6_goes_76 : decode cX6_goes 76 = .ok (.istore 6, 2) := dk_54 6 (dk_at dksX6_goes_3 7 rfl rfl)
theorem dX6_goes_78 : decode cX6_goes 78 = .ok (.iload 6, 2) := dk_21 6 (dk_at dksX6_goes_3 9 rfl rfl)
theorem dX6_goes_80 : decode cX6_goes 80 = .ok (.ifCond .le 24, 3) := dk_158 0 24 (dk_at dksX6_goes_3 11 rfl rfl)
theorem dX6_goes_83 : decode cX6_goes 83 = .ok (.aload_n 0, 1) := dk_42 (dk_at dksX6_goes_3 14 rfl rfl)
theorem dX6_goes_84 : decode cX6_goes 84 = .ok (.getfield 45, 3) := dk_180 0 45 (dk_at dksX6_goes_3 15 rfl rfl)
theorem dX6_goes_87 : decode cX6_goes 87 = .ok (.iload 6, 2) := dk_21 6 (dk_at dksX6_goes_3 18 rfl rfl)
theorem dX6_goes_89 : decode cX6_goes 89 = .ok (.iconst 1, 1) := dk_4 (dk_at dksX6_goes_3 20 rfl rfl)
theorem dX6_goes_90 : decode cX6_goes 90 = .ok (.isub, 1) := dk_100 (dk_at dksX6_goes_3 21 rfl rfl)
theorem dX6_goes_91 : decode cX6_goes 91 = .ok (.laload, 1) := dk_47 (dk_at dksX6_goes_3 22 rfl rfl)
theorem dX6_goes_92 : decode cX6_goes 92 = .ok (.lload 4, 2) := dk_22 4 (dk_at dksX6_goes_4 0 rfl rfl)
theorem dX6_goes_94 : decode cX6_goes 94 = .ok (.lcmp, 1) := dk_148 (dk_at dksX6_goes_4 2 rfl rfl)
theorem dX6_goes_95 : decode cX6_goes 95 = .ok (.ifCond .ge 9, 3) := dk_156 0 9 (dk_at dksX6_goes_4 3 rfl rfl)
theorem dX6_goes_98 : decode cX6_goes 98 = .ok (.iinc 6 (-1), 3) := dk_132 6 255 (dk_at dksX6_goes_4 6 rfl rfl)
theorem dX6_goes_101 : decode cX6_goes 101 = .ok (.goto (-23), 3) := dk_167 255 233 (dk_at dksX6_goes_4 9 rfl rfl)
theorem dX6_goes_104 : decode cX6_goes 104 = .ok (.lload 4, 2) := dk_22 4 (dk_at dksX6_goes_4 12 rfl rfl)
theorem dX6_goes_106 : decode cX6_goes 106 = .ok (.lconst 0, 1) := dk_9 (dk_at dksX6_goes_4 14 rfl rfl)
theorem dX6_goes_107 : decode cX6_goes 107 = .ok (.lcmp, 1) := dk_148 (dk_at dksX6_goes_4 15 rfl rfl)
theorem dX6_goes_108 : decode cX6_goes 108 = .ok (.ifCond .le 103, 3) := dk_158 0 103 (dk_at dksX6_goes_4 16 rfl rfl)
theorem dX6_goes_111 : decode cX6_goes 111 = .ok (.iload 6, 2) := dk_21 6 (dk_at dksX6_goes_4 19 rfl rfl)
theorem dX6_goes_113 : decode cX6_goes 113 = .ok (.bipush 10, 2) := dk_16 10 (dk_at dksX6_goes_4 21 rfl rfl)
theorem dX6_goes_115 : decode cX6_goes 115 = .ok (.if_icmp .ge 96, 3) := dk_162 0 96 (dk_at dksX6_goes_5 0 rfl rfl)
theorem dX6_goes_118 : decode cX6_goes 118 = .ok (.aload_n 0, 1) := dk_42 (dk_at dksX6_goes_5 3 rfl rfl)
theorem dX6_goes_119 : decode cX6_goes 119 = .ok (.dup, 1) := dk_89 (dk_at dksX6_goes_5 4 rfl rfl)
theorem dX6_goes_120 : decode cX6_goes 120 = .ok (.getfield 111, 3) := dk_180 0 111 (dk_at dksX6_goes_5 5 rfl rfl)
theorem dX6_goes_123 : decode cX6_goes 123 = .ok (.aload_n 0, 1) := dk_42 (dk_at dksX6_goes_5 8 rfl rfl)
theorem dX6_goes_124 : decode cX6_goes 124 = .ok (.getfield 111, 3) := dk_180 0 111 (dk_at dksX6_goes_5 9 rfl rfl)
theorem dX6_goes_127 : decode cX6_goes 127 = .ok (.bipush 10, 2) := dk_16 10 (dk_at dksX6_goes_5 12 rfl rfl)
theorem dX6_goes_129 : decode cX6_goes 129 = .ok (.if_icmp .ge 7, 3) := dk_162 0 7 (dk_at dksX6_goes_5 14 rfl rfl)
theorem dX6_goes_132 : decode cX6_goes 132 = .ok (.iconst 1, 1) := dk_4 (dk_at dksX6_goes_5 17 rfl rfl)
theorem dX6_goes_133 : decode cX6_goes 133 = .ok (.goto 4, 3) := dk_167 0 4 (dk_at dksX6_goes_5 18 rfl rfl)
theorem dX6_goes_136 : decode cX6_goes 136 = .ok (.iconst 0, 1) := dk_3 (dk_at dksX6_goes_5 21 rfl rfl)
theorem dX6_goes_137 : decode cX6_goes 137 = .ok (.iadd, 1) := dk_96 (dk_at dksX6_goes_5 22 rfl rfl)
theorem dX6_goes_138 : decode cX6_goes 138 = .ok (.putfield 111, 3) := dk_181 0 111 (dk_at dksX6_goes_6 0 rfl rfl)
theorem dX6_goes_141 : decode cX6_goes 141 = .ok (.aload_n 0, 1) := dk_42 (dk_at dksX6_goes_6 3 rfl rfl)
theorem dX6_goes_142 : decode cX6_goes 142 = .ok (.getfield 111, 3) := dk_180 0 111 (dk_at dksX6_goes_6 4 rfl rfl)
theorem dX6_goes_145 : decode cX6_goes 145 = .ok (.iconst 1, 1) := dk_4 (dk_at dksX6_goes_6 7 rfl rfl)
theorem dX6_goes_146 : decode cX6_goes 146 = .ok (.isub, 1) := dk_100 (dk_at dksX6_goes_6 8 rfl rfl)
theorem dX6_goes_147 : decode cX6_goes 147 = .ok (.istore 7, 2) := dk_54 7 (dk_at dksX6_goes_6 9 rfl rfl)
theorem dX6_goes_149 : decode cX6_goes 149 = .ok (.iload 7, 2) := dk_21 7 (dk_at dksX6_goes_6 11 rfl rfl)
theorem dX6_goes_151 : decode cX6_goes 151 = .ok (.iload 6, 2) := dk_21 6 (dk_at dksX6_goes_6 13 rfl rfl)
theorem dX6_goes_153 : decode cX6_goes 153 = .ok (.if_icmp .le 41, 3) := dk_164 0 41 (dk_at dksX6_goes_6 15 rfl rfl)
theorem dX6_goes_156 : decode cX6_goes 156 = .ok (.aload_n 0, 1) := dk_42 (dk_at dksX6_goes_6 18 rfl rfl)
theorem dX6_goes_157 : decode cX6_goes 157 = .ok (.getfield 45, 3) := dk_180 0 45 (dk_at dksX6_goes_6 19 rfl rfl)
theorem dX6_goes_160 : decode cX6_goes 160 = .ok (.iload 7, 2) := dk_21 7 (dk_at dksX6_goes_6 22 rfl rfl)
theorem dX6_goes_162 : decode cX6_goes 162 = .ok (.aload_n 0, 1) := dk_42 (dk_at dksX6_goes_7 0 rfl rfl)
theorem dX6_goes_163 : decode cX6_goes 163 = .ok (.getfield 45, 3) := dk_180 0 45 (dk_at dksX6_goes_7 1 rfl rfl)
theorem dX6_goes_166 : decode cX6_goes 166 = .ok (.iload 7, 2) := dk_21 7 (dk_at dksX6_goes_7 4 rfl rfl)
theorem dX6_goes_168 : decode cX6_goes 168 = .ok (.iconst 1, 1) := dk_4 (dk_at dksX6_goes_7 6 rfl rfl)
theorem dX6_goes_169 : decode cX6_goes 169 = .ok (.isub, 1) := dk_100 (dk_at dksX6_goes_7 7 rfl rfl)
theorem dX6_goes_170 : decode cX6_goes 170 = .ok (.laload, 1) := dk_47 (dk_at dksX6_goes_7 8 rfl rfl)
theorem dX6_goes_171 : decode cX6_goes 171 = .ok (.lastore, 1) := dk_80 (dk_at dksX6_goes_7 9 rfl rfl)
theorem dX6_goes_172 : decode cX6_goes 172 = .ok (.aload_n 0, 1) := dk_42 (dk_at dksX6_goes_7 10 rfl rfl)
theorem dX6_goes_173 : decode cX6_goes 173 = .ok (.getfield 48, 3) := dk_180 0 48 (dk_at dksX6_goes_7 11 rfl rfl)
theorem dX6_goes_176 : decode cX6_goes 176 = .ok (.iload 7, 2) := dk_21 7 (dk_at dksX6_goes_7 14 rfl rfl)
theorem dX6_goes_178 : decode cX6_goes 178 = .ok (.aload_n 0, 1) := dk_42 (dk_at dksX6_goes_7 16 rfl rfl)
theorem dX6_goes_179 : decode cX6_goes 179 = .ok (.getfield 48, 3) := dk_180 0 48 (dk_at dksX6_goes_7 17 rfl rfl)
theorem dX6_goes_182 : decode cX6_goes 182 = .ok (.iload 7, 2) := dk_21 7 (dk_at dksX6_goes_7 20 rfl rfl)
theorem dX6_goes_184 : decode cX6_goes 184 = .ok (.iconst 1, 1) := dk_4 (dk_at dksX6_goes_7 22 rfl rfl)
theorem dX6_goes_185 : decode cX6_goes 185 = .ok (.isub, 1) := dk_100 (dk_at dksX6_goes_7 23 rfl rfl)
theorem dX6_goes_186 : decode cX6_goes 186 = .ok (.iaload, 1) := dk_46 (dk_at dksX6_goes_8 0 rfl rfl)
theorem dX6_goes_187 : decode cX6_goes 187 = .ok (.iastore, 1) := dk_79 (dk_at dksX6_goes_8 1 rfl rfl)
theorem dX6_goes_188 : decode cX6_goes 188 = .ok (.iinc 7 (-1), 3) := dk_132 7 255 (dk_at dksX6_goes_8 2 rfl rfl)
theorem dX6_goes_191 : decode cX6_goes 191 = .ok (.goto (-42), 3) := dk_167 255 214 (dk_at dksX6_goes_8 5 rfl rfl)
theorem dX6_goes_194 : decode cX6_goes 194 = .ok (.aload_n 0, 1) := dk_42 (dk_at dksX6_goes_8 8 rfl rfl)
theorem dX6_goes_195 : decode cX6_goes 195 = .ok (.getfield 45, 3) := dk_180 0 45 (dk_at dksX6_goes_8 9 rfl rfl)
theorem dX6_goes_198 : decode cX6_goes 198 = .ok (.iload 6, 2) := dk_21 6 (dk_at dksX6_goes_8 12 rfl rfl)
theorem dX6_goes_200 : decode cX6_goes 200 = .ok (.lload 4, 2) := dk_22 4 (dk_at dksX6_goes_8 14 rfl rfl)
theorem dX6_goes_202 : decode cX6_goes 202 = .ok (.lastore, 1) := dk_80 (dk_at dksX6_goes_8 16 rfl rfl)
theorem dX6_goes_203 : decode cX6_goes 203 = .ok (.aload_n 0, 1) := dk_42 (dk_at dksX6_goes_8 17 rfl rfl)
theorem dX6_goes_204 : decode cX6_goes 204 = .ok (.getfield 48, 3) := dk_180 0 48 (dk_at dksX6_goes_8 18 rfl rfl)
theorem dX6_goes_207 : decode cX6_goes 207 = .ok (.iload 6, 2) := dk_21 6 (dk_at dksX6_goes_8 21 rfl rfl)
theorem dX6_goes_209 : decode cX6_goes 209 = .ok (.iload_n 3, 1) := dk_29 (dk_at dksX6_goes_8 23 rfl rfl)
theorem dX6_goes_210 : decode cX6_goes 210 = .ok (.iastore, 1) := dk_79 (dk_at dksX6_goes_9 0 rfl rfl)
theorem dX6_goes_211 : decode cX6_goes 211 = .ok (.iinc 3 1, 3) := dk_132 3 1 (dk_at dksX6_goes_9 1 rfl rfl)
theorem dX6_goes_214 : decode cX6_goes 214 = .ok (.goto (-193), 3) := dk_167 255 63 (dk_at dksX6_goes_9 4 rfl rfl)
theorem dX6_goes_217 : decode cX6_goes 217 = .ok (.return_, 1) := dk_177 (dk_at dksX6_goes_9 7 rfl rfl)
abbrev cX6_lays : ByteArray := prog_13_method_19_code
def yX6_lays : MethodName := ⟨RX6, "lays", "()V"⟩
def dkwX6_lays_4 : List UInt8 := [167, 255, 235, 177]
abbrev dktX6_lays_4 : List UInt8 := dkwX6_lays_4 ++ []
def dkwX6_lays_3 : List UInt8 := [60, 27, 8, 162, 0, 22, 42, 180, 0, 42, 27, 42, 2, 27, 182, 0, 102, 133, 80, 132, 1, 1]
abbrev dktX6_lays_3 : List UInt8 := dkwX6_lays_3 ++ dktX6_lays_4
def dkwX6_lays_2 : List UInt8 := [42, 180, 0, 39, 27, 42, 27, 8, 108, 27, 8, 112, 182, 0, 102, 133, 80, 132, 1, 1, 167, 255, 230, 3]
abbrev dktX6_lays_2 : List UInt8 := dkwX6_lays_2 ++ dktX6_lays_3
def dkwX6_lays_1 : List UInt8 := [108, 46, 27, 8, 112, 182, 0, 99, 133, 80, 132, 1, 1, 167, 255, 221, 3, 60, 27, 16, 25, 162, 0, 26]
abbrev dktX6_lays_1 : List UInt8 := dkwX6_lays_1 ++ dktX6_lays_2
def dkwX6_lays_0 : List UInt8 := [3, 60, 27, 8, 42, 180, 0, 62, 104, 162, 0, 31, 42, 180, 0, 35, 27, 42, 42, 180, 0, 29, 27, 8]
abbrev dktX6_lays_0 : List UInt8 := dkwX6_lays_0 ++ dktX6_lays_1
theorem dksX6_lays_0 : cX6_lays.data.toList.drop 0 = dktX6_lays_0 := by decide +kernel
theorem dksX6_lays_1 : cX6_lays.data.toList.drop 24 = dktX6_lays_1 := dk_seg dksX6_lays_0 24 rfl rfl
theorem dksX6_lays_2 : cX6_lays.data.toList.drop 48 = dktX6_lays_2 := dk_seg dksX6_lays_1 24 rfl rfl
theorem dksX6_lays_3 : cX6_lays.data.toList.drop 72 = dktX6_lays_3 := dk_seg dksX6_lays_2 24 rfl rfl
theorem dksX6_lays_4 : cX6_lays.data.toList.drop 94 = dktX6_lays_4 := dk_seg dksX6_lays_3 22 rfl rfl
theorem dX6_lays_0 : decode cX6_lays 0 = .ok (.iconst 0, 1) := dk_3 (dk_at dksX6_lays_0 0 rfl rfl)
theorem dX6_lays_1 : decode cX6_lays 1 = .ok (.istore_n 1, 1) := dk_60 (dk_at dksX6_lays_0 1 rfl rfl)
theorem dX6_lays_2 : decode cX6_lays 2 = .ok (.iload_n 1, 1) := dk_27 (dk_at dksX6_lays_0 2 rfl rfl)
theorem dX6_lays_3 : decode cX6_lays 3 = .ok (.iconst 5, 1) := dk_8 (dk_at dksX6_lays_0 3 rfl rfl)
theorem dX6_lays_4 : decode cX6_lays 4 = .ok (.aload_n 0, 1) := dk_42 (dk_at dksX6_lays_0 4 rfl rfl)
theorem dX6_lays_5 : decode cX6_lays 5 = .ok (.getfield 62, 3) := dk_180 0 62 (dk_at dksX6_lays_0 5 rfl rfl)
theorem dX6_lays_8 : decode cX6_lays 8 = .ok (.imul, 1) := dk_104 (dk_at dksX6_lays_0 8 rfl rfl)
theorem dX6_lays_9 : decode cX6_lays 9 = .ok (.if_icmp .ge 31, 3) := dk_162 0 31 (dk_at dksX6_lays_0 9 rfl rfl)
theorem dX6_lays_12 : decode cX6_lays 12 = .ok (.aload_n 0, 1) := dk_42 (dk_at dksX6_lays_0 12 rfl rfl)
theorem dX6_lays_13 : decode cX6_lays 13 = .ok (.getfield 35, 3) := dk_180 0 35 (dk_at dksX6_lays_0 13 rfl rfl)
theorem dX6_lays_16 : decode cX6_lays 16 = .ok (.iload_n 1, 1) := dk_27 (dk_at dksX6_lays_0 16 rfl rfl)
theorem dX6_lays_17 : decode cX6_lays 17 = .ok (.aload_n 0, 1) := dk_42 (dk_at dksX6_lays_0 17 rfl rfl)
theorem dX6_lays_18 : decode cX6_lays 18 = .ok (.aload_n 0, 1) := dk_42 (dk_at dksX6_lays_0 18 rfl rfl)
theorem dX6_lays_19 : decode cX6_lays 19 = .ok (.getfield 29, 3) := dk_180 0 29 (dk_at dksX6_lays_0 19 rfl rfl)
theorem dX6_lays_22 : decode cX6_lays 22 = .ok (.iload_n 1, 1) := dk_27 (dk_at dksX6_lays_0 22 rfl rfl)
theorem dX6_lays_23 : decode cX6_lays 23 = .ok (.iconst 5, 1) := dk_8 (dk_at dksX6_lays_0 23 rfl rfl)
theorem dX6_lays_24 : decode cX6_lays 24 = .ok (.idiv, 1) := dk_108 (dk_at dksX6_lays_1 0 rfl rfl)
theorem dX6_lays_25 : decode cX6_lays 25 = .ok (.iaload, 1) := dk_46 (dk_at dksX6_lays_1 1 rfl rfl)
theorem dX6_lays_26 : decode cX6_lays 26 = .ok (.iload_n 1, 1) := dk_27 (dk_at dksX6_lays_1 2 rfl rfl)
theorem dX6_lays_27 : decode cX6_lays 27 = .ok (.iconst 5, 1) := dk_8 (dk_at dksX6_lays_1 3 rfl rfl)
theorem dX6_lays_28 : decode cX6_lays 28 = .ok (.irem, 1) := dk_112 (dk_at dksX6_lays_1 4 rfl rfl)
theorem dX6_lays_29 : decode cX6_lays 29 = .ok (.invokevirtual 99, 3) := dk_182 0 99 (dk_at dksX6_lays_1 5 rfl rfl)
theorem dX6_lays_32 : decode cX6_lays 32 = .ok (.i2l, 1) := dk_133 (dk_at dksX6_lays_1 8 rfl rfl)
theorem dX6_lays_33 : decode cX6_lays 33 = .ok (.lastore, 1) := dk_80 (dk_at dksX6_lays_1 9 rfl rfl)
theorem dX6_lays_34 : decode cX6_lays 34 = .ok (.iinc 1 1, 3) := dk_132 1 1 (dk_at dksX6_lays_1 10 rfl rfl)
theorem dX6_lays_37 : decode cX6_lays 37 = .ok (.goto (-35), 3) := dk_167 255 221 (dk_at dksX6_lays_1 13 rfl rfl)
theorem dX6_lays_40 : decode cX6_lays 40 = .ok (.iconst 0, 1) := dk_3 (dk_at dksX6_lays_1 16 rfl rfl)
theorem dX6_lays_41 : decode cX6_lays 41 = .ok (.istore_n 1, 1) := dk_60 (dk_at dksX6_lays_1 17 rfl rfl)
theorem dX6_lays_42 : decode cX6_lays 42 = .ok (.iload_n 1, 1) := dk_27 (dk_at dksX6_lays_1 18 rfl rfl)
theorem dX6_lays_43 : decode cX6_lays 43 = .ok (.bipush 25, 2) := dk_16 25 (dk_at dksX6_lays_1 19 rfl rfl)
theorem dX6_lays_45 : decode cX6_lays 45 = .ok (.if_icmp .ge 26, 3) := dk_162 0 26 (dk_at dksX6_lays_1 21 rfl rfl)
theorem dX6_lays_48 : decode cX6_lays 48 = .ok (.aload_n 0, 1) := dk_42 (dk_at dksX6_lays_2 0 rfl rfl)
theorem dX6_lays_49 : decode cX6_lays 49 = .ok (.getfield 39, 3) := dk_180 0 39 (dk_at dksX6_lays_2 1 rfl rfl)
theorem dX6_lays_52 : decode cX6_lays 52 = .ok (.iload_n 1, 1) := dk_27 (dk_at dksX6_lays_2 4 rfl rfl)
theorem dX6_lays_53 : decode cX6_lays 53 = .ok (.aload_n 0, 1) := dk_42 (dk_at dksX6_lays_2 5 rfl rfl)
theorem dX6_lays_54 : decode cX6_lays 54 = .ok (.iload_n 1, 1) := dk_27 (dk_at dksX6_lays_2 6 rfl rfl)
theorem dX6_lays_55 : decode cX6_lays 55 = .ok (.iconst 5, 1) := dk_8 (dk_at dksX6_lays_2 7 rfl rfl)
theorem dX6_lays_56 : decode cX6_lays 56 = .ok (.idiv, 1) := dk_108 (dk_at dksX6_lays_2 8 rfl rfl)
theorem dX6_lays_57 : decode cX6_lays 57 = .ok (.iload_n 1, 1) := dk_27 (dk_at dksX6_lays_2 9 rfl rfl)
theorem dX6_lays_58 : decode cX6_lays 58 = .ok (.iconst 5, 1) := dk_8 (dk_at dksX6_lays_2 10 rfl rfl)
theorem dX6_lays_59 : decode cX6_lays 59 = .ok (.irem, 1) := dk_112 (dk_at dksX6_lays_2 11 rfl rfl)
theorem dX6_lays_60 : decode cX6_lays 60 = .ok (.invokevirtual 102, 3) := dk_182 0 102 (dk_at dksX6_lays_2 12 rfl rfl)
theorem dX6_lays_63 : decode cX6_lays 63 = .ok (.i2l, 1) := dk_133 (dk_at dksX6_lays_2 15 rfl rfl)
theorem dX6_lays_64 : decode cX6_lays 64 = .ok (.lastore, 1) := dk_80 (dk_at dksX6_lays_2 16 rfl rfl)
theorem dX6_lays_65 : decode cX6_lays 65 = .ok (.iinc 1 1, 3) := dk_132 1 1 (dk_at dksX6_lays_2 17 rfl rfl)
theorem dX6_lays_68 : decode cX6_lays 68 = .ok (.goto (-26), 3) := dk_167 255 230 (dk_at dksX6_lays_2 20 rfl rfl)
theorem dX6_lays_71 : decode cX6_lays 71 = .ok (.iconst 0, 1) := dk_3 (dk_at dksX6_lays_2 23 rfl rfl)
theorem dX6_lays_72 : decode cX6_lays 72 = .ok (.istore_n 1, 1) := dk_60 (dk_at dksX6_lays_3 0 rfl rfl)
theorem dX6_lays_73 : decode cX6_lays 73 = .ok (.iload_n 1, 1) := dk_27 (dk_at dksX6_lays_3 1 rfl rfl)
theorem dX6_lays_74 : decode cX6_lays 74 = .ok (.iconst 5, 1) := dk_8 (dk_at dksX6_lays_3 2 rfl rfl)
theorem dX6_lays_75 : decode cX6_lays 75 = .ok (.if_icmp .ge 22, 3) := dk_162 0 22 (dk_at dksX6_lays_3 3 rfl rfl)
theorem dX6_lays_78 : decode cX6_lays 78 = .ok (.aload_n 0, 1) := dk_42 (dk_at dksX6_lays_3 6 rfl rfl)
theorem dX6_lays_79 : decode cX6_lays 79 = .ok (.getfield 42, 3) := dk_180 0 42 (dk_at dksX6_lays_3 7 rfl rfl)
theorem dX6_lays_82 : decode cX6_lays 82 = .ok (.iload_n 1, 1) := dk_27 (dk_at dksX6_lays_3 10 rfl rfl)
theorem dX6_lays_83 : decode cX6_lays 83 = .ok (.aload_n 0, 1) := dk_42 (dk_at dksX6_lays_3 11 rfl rfl)
theorem dX6_lays_84 : decode cX6_lays 84 = .ok (.iconst (-1), 1) := dk_2 (dk_at dksX6_lays_3 12 rfl rfl)
theorem dX6_lays_85 : decode cX6_lays 85 = .ok (.iload_n 1, 1) := dk_27 (dk_at dksX6_lays_3 13 rfl rfl)
theorem dX6_lays_86 : decode cX6_lays 86 = .ok (.invokevirtual 102, 3) := dk_182 0 102 (dk_at dksX6_lays_3 14 rfl rfl)
theorem dX6_lays_89 : decode cX6_lays 89 = .ok (.i2l, 1) := dk_133 (dk_at dksX6_lays_3 17 rfl rfl)
theorem dX6_lays_90 : decode cX6_lays 90 = .ok (.lastore, 1) := dk_80 (dk_at dksX6_lays_3 18 rfl rfl)
theorem dX6_lays_91 : decode cX6_lays 91 = .ok (.iinc 1 1, 3) := dk_132 1 1 (dk_at dksX6_lays_3 19 rfl rfl)
theorem dX6_lays_94 : decode cX6_lays 94 = .ok (.goto (-21), 3) := dk_167 255 235 (dk_at dksX6_lays_4 0 rfl rfl)
theorem dX6_lays_97 : decode cX6_lays 97 = .ok (.return_, 1) := dk_177 (dk_at dksX6_lays_4 3 rfl rfl)
abbrev cX6_paths : ByteArray := prog_13_method_20_code
def yX6_paths : MethodName := ⟨RX6, "paths", "()I"⟩
def dkwX6_paths_0 : List UInt8 := [4, 60, 3, 61, 28, 42, 180, 0, 62, 162, 0, 13, 27, 8, 104, 60, 132, 2, 1, 167, 255, 241, 27, 172]
abbrev dktX6_paths_0 : List UInt8 := dkwX6_paths_0 ++ []
theorem dksX6_paths_0 : cX6_paths.data.toList.drop 0 = dktX6_paths_0 := by decide +kernel
theorem dX6_paths_0 : decode cX6_paths 0 = .ok (.iconst 1, 1) := dk_4 (dk_at dksX6_paths_0 0 rfl rfl)
theorem dX6_paths_1 : decode cX6_paths 1 = .ok (.istore_n 1, 1) := dk_60 (dk_at dksX6_paths_0 1 rfl rfl)
theorem dX6_paths_2 : decode cX6_paths 2 = .ok (.iconst 0, 1) := dk_3 (dk_at dksX6_paths_0 2 rfl rfl)
theorem dX6_paths_3 : decode cX6_paths 3 = .ok (.istore_n 2, 1) := dk_61 (dk_at dksX6_paths_0 3 rfl rfl)
theorem dX6_paths_4 : decode cX6_paths 4 = .ok (.iload_n 2, 1) := dk_28 (dk_at dksX6_paths_0 4 rfl rfl)
theorem dX6_paths_5 : decode cX6_paths 5 = .ok (.aload_n 0, 1) := dk_42 (dk_at dksX6_paths_0 5 rfl rfl)
theorem dX6_paths_6 : decode cX6_paths 6 = .ok (.getfield 62, 3) := dk_180 0 62 (dk_at dksX6_paths_0 6 rfl rfl)
theorem dX6_paths_9 : decode cX6_paths 9 = .ok (.if_icmp .ge 13, 3) := dk_162 0 13 (dk_at dksX6_paths_0 9 rfl rfl)
theorem dX6_paths_12 : decode cX6_paths 12 = .ok (.iload_n 1, 1) := dk_27 (dk_at dksX6_paths_0 12 rfl rfl)
theorem dX6_paths_13 : decode cX6_paths 13 = .ok (.iconst 5, 1) := dk_8 (dk_at dksX6_paths_0 13 rfl rfl)
theorem dX6_paths_14 : decode cX6_paths 14 = .ok (.imul, 1) := dk_104 (dk_at dksX6_paths_0 14 rfl rfl)
theorem dX6_paths_15 : decode cX6_paths 15 = .ok (.istore_n 1, 1) := dk_60 (dk_at dksX6_paths_0 15 rfl rfl)
theorem dX6_paths_16 : decode cX6_paths 16 = .ok (.iinc 2 1, 3) := dk_132 2 1 (dk_at dksX6_paths_0 16 rfl rfl)
theorem dX6_paths_19 : decode cX6_paths 19 = .ok (.goto (-15), 3) := dk_167 255 241 (dk_at dksX6_paths_0 19 rfl rfl)
theorem dX6_paths_22 : decode cX6_paths 22 = .ok (.iload_n 1, 1) := dk_27 (dk_at dksX6_paths_0 22 rfl rfl)
theorem dX6_paths_23 : decode cX6_paths 23 = .ok (.ireturn, 1) := dk_172 (dk_at dksX6_paths_0 23 rfl rfl)
abbrev cX6_weightOfPath : ByteArray := prog_13_method_22_code
def yX6_weightOfPath : MethodName := ⟨RX6, "weightOfPath", "(I)J"⟩
def dkwX6_weightOfPath_4 : List UInt8 := [105, 65, 132, 4, 1, 167, 255, 160, 32, 173]
abbrev dktX6_weightOfPath_4 : List UInt8 := dkwX6_weightOfPath_4 ++ []
def dkwX6_weightOfPath_3 : List UInt8 := [47, 167, 0, 22, 42, 180, 0, 39, 8, 42, 27, 21, 4, 4, 100, 182, 0, 105, 104, 21, 5, 96, 47, 105]
abbrev dktX6_weightOfPath_3 : List UInt8 := dkwX6_weightOfPath_3 ++ dktX6_weightOfPath_4
def dkwX6_weightOfPath_2 : List UInt8 := [32, 42, 180, 0, 35, 8, 21, 4, 104, 21, 5, 96, 47, 21, 4, 154, 0, 13, 42, 180, 0, 42, 21, 5]
abbrev dktX6_weightOfPath_2 : List UInt8 := dkwX6_weightOfPath_2 ++ dktX6_weightOfPath_3
def dkwX6_weightOfPath_1 : List UInt8 := [180, 0, 32, 21, 4, 46, 2, 159, 0, 17, 42, 180, 0, 32, 21, 4, 46, 21, 5, 159, 0, 5, 9, 173]
abbrev dktX6_weightOfPath_1 : List UInt8 := dkwX6_weightOfPath_1 ++ dktX6_weightOfPath_2
def dkwX6_weightOfPath_0 : List UInt8 := [10, 65, 3, 54, 4, 21, 4, 42, 180, 0, 62, 162, 0, 93, 42, 27, 21, 4, 182, 0, 105, 54, 5, 42]
abbrev dktX6_weightOfPath_0 : List UInt8 := dkwX6_weightOfPath_0 ++ dktX6_weightOfPath_1
theorem dksX6_weightOfPath_0 : cX6_weightOfPath.data.toList.drop 0 = dktX6_weightOfPath_0 := by decide +kernel
theorem dksX6_weightOfPath_1 : cX6_weightOfPath.data.toList.drop 24 = dktX6_weightOfPath_1 := dk_seg dksX6_weightOfPath_0 24 rfl rfl
theorem dksX6_weightOfPath_2 : cX6_weightOfPath.data.toList.drop 48 = dktX6_weightOfPath_2 := dk_seg dksX6_weightOfPath_1 24 rfl rfl
theorem dksX6_weightOfPath_3 : cX6_weightOfPath.data.toList.drop 72 = dktX6_weightOfPath_3 := dk_seg dksX6_weightOfPath_2 24 rfl rfl
theorem dksX6_weightOfPath_4 : cX6_weightOfPath.data.toList.drop 96 = dktX6_weightOfPath_4 := dk_seg dksX6_weightOfPath_3 24 rfl rfl
theorem dX6_weightOfPath_0 : decode cX6_weightOfPath 0 = .ok (.lconst 1, 1) := dk_10 (dk_at dksX6_weightOfPath_0 0 rfl rfl)
theorem dX6_weightOfPath_1 : decode cX6_weightOfPath 1 = .ok (.lstore_n 2, 1) := dk_65 (dk_at dksX6_weightOfPath_0 1 rfl rfl)
theorem dX6_weightOfPath_2 : decode cX6_weightOfPath 2 = .ok (.iconst 0, 1) := dk_3 (dk_at dksX6_weightOfPath_0 2 rfl rfl)
theorem dX6_weightOfPath_3 : decode cX6_weightOfPath 3 = .ok (.istore 4, 2) := dk_54 4 (dk_at dksX6_weightOfPath_0 3 rfl rfl)
theorem dX6_weightOfPath_5 : decode cX6_weightOfPath 5 = .ok (.iload 4, 2) := dk_21 4 (dk_at dksX6_weightOfPath_0 5 rfl rfl)
theorem dX6_weightOfPath_7 : decode cX6_weightOfPath 7 = .ok (.aload_n 0, 1) := dk_42 (dk_at dksX6_weightOfPath_0 7 rfl rfl)
theorem dX6_weightOfPath_8 : decode cX6_weightOfPath 8 = .ok (.getfield 62, 3) := dk_180 0 62 (dk_at dksX6_weightOfPath_0 8 rfl rfl)
theorem dX6_weightOfPath_11 : decode cX6_weightOfPath 11 = .ok (.if_icmp .ge 93, 3) := dk_162 0 93 (dk_at dksX6_weightOfPath_0 11 rfl rfl)
theorem dX6_weightOfPath_14 : decode cX6_weightOfPath 14 = .ok (.aload_n 0, 1) := dk_42 (dk_at dksX6_weightOfPath_0 14 rfl rfl)
theorem dX6_weightOfPath_15 : decode cX6_weightOfPath 15 = .ok (.iload_n 1, 1) := dk_27 (dk_at dksX6_weightOfPath_0 15 rfl rfl)
theorem dX6_weightOfPath_16 : decode cX6_weightOfPath 16 = .ok (.iload 4, 2) := dk_21 4 (dk_at dksX6_weightOfPath_0 16 rfl rfl)
theorem dX6_weightOfPath_18 : decode cX6_weightOfPath 18 = .ok (.invokevirtual 105, 3) := dk_182 0 105 (dk_at dksX6_weightOfPath_0 18 rfl rfl)
theorem dX6_weightOfPath_21 : decode cX6_weightOfPath 21 = .ok (.istore 5, 2) := dk_54 5 (dk_at dksX6_weightOfPath_0 21 rfl rfl)
theorem dX6_weightOfPath_23 : decode cX6_weightOfPath 23 = .ok (.aload_n 0, 1) := dk_42 (dk_at dksX6_weightOfPath_0 23 rfl rfl)
theorem dX6_weightOfPath_24 : decode cX6_weightOfPath 24 = .ok (.getfield 32, 3) := dk_180 0 32 (dk_at dksX6_weightOfPath_1 0 rfl rfl)
theorem dX6_weightOfPath_27 : decode cX6_weightOfPath 27 = .ok (.iload 4, 2) := dk_21 4 (dk_at dksX6_weightOfPath_1 3 rfl rfl)
theorem dX6_weightOfPath_29 : decode cX6_weightOfPath 29 = .ok (.iaload, 1) := dk_46 (dk_at dksX6_weightOfPath_1 5 rfl rfl)
theorem dX6_weightOfPath_30 : decode cX6_weightOfPath 30 = .ok (.iconst (-1), 1) := dk_2 (dk_at dksX6_weightOfPath_1 6 rfl rfl)
theorem dX6_weightOfPath_31 : decode cX6_weightOfPath 31 = .ok (.if_icmp .eq 17, 3) := dk_159 0 17 (dk_at dksX6_weightOfPath_1 7 rfl rfl)
theorem dX6_weightOfPath_34 : decode cX6_weightOfPath 34 = .ok (.aload_n 0, 1) := dk_42 (dk_at dksX6_weightOfPath_1 10 rfl rfl)
theorem dX6_weightOfPath_35 : decode cX6_weightOfPath 35 = .ok (.getfield 32, 3) := dk_180 0 32 (dk_at dksX6_weightOfPath_1 11 rfl rfl)
theorem dX6_weightOfPath_38 : decode cX6_weightOfPath 38 = .ok (.iload 4, 2) := dk_21 4 (dk_at dksX6_weightOfPath_1 14 rfl rfl)
theorem dX6_weightOfPath_40 : decode cX6_weightOfPath 40 = .ok (.iaload, 1) := dk_46 (dk_at dksX6_weightOfPath_1 16 rfl rfl)
theorem dX6_weightOfPath_41 : decode cX6_weightOfPath 41 = .ok (.iload 5, 2) := dk_21 5 (dk_at dksX6_weightOfPath_1 17 rfl rfl)
theorem dX6_weightOfPath_43 : decode cX6_weightOfPath 43 = .ok (.if_icmp .eq 5, 3) := dk_159 0 5 (dk_at dksX6_weightOfPath_1 19 rfl rfl)
theorem dX6_weightOfPath_46 : decode cX6_weightOfPath 46 = .ok (.lconst 0, 1) := dk_9 (dk_at dksX6_weightOfPath_1 22 rfl rfl)
theorem dX6_weightOfPath_47 : decode cX6_weightOfPath 47 = .ok (.lreturn, 1) := dk_173 (dk_at dksX6_weightOfPath_1 23 rfl rfl)
theorem dX6_weightOfPath_48 : decode cX6_weightOfPath 48 = .ok (.lload_n 2, 1) := dk_32 (dk_at dksX6_weightOfPath_2 0 rfl rfl)
theorem dX6_weightOfPath_49 : decode cX6_weightOfPath 49 = .ok (.aload_n 0, 1) := dk_42 (dk_at dksX6_weightOfPath_2 1 rfl rfl)
theorem dX6_weightOfPath_50 : decode cX6_weightOfPath 50 = .ok (.getfield 35, 3) := dk_180 0 35 (dk_at dksX6_weightOfPath_2 2 rfl rfl)
theorem dX6_weightOfPath_53 : decode cX6_weightOfPath 53 = .ok (.iconst 5, 1) := dk_8 (dk_at dksX6_weightOfPath_2 5 rfl rfl)
theorem dX6_weightOfPath_54 : decode cX6_weightOfPath 54 = .ok (.iload 4, 2) := dk_21 4 (dk_at dksX6_weightOfPath_2 6 rfl rfl)
theorem dX6_weightOfPath_56 : decode cX6_weightOfPath 56 = .ok (.imul, 1) := dk_104 (dk_at dksX6_weightOfPath_2 8 rfl rfl)
theorem dX6_weightOfPath_57 : decode cX6_weightOfPath 57 = .ok (.iload 5, 2) := dk_21 5 (dk_at dksX6_weightOfPath_2 9 rfl rfl)
theorem dX6_weightOfPath_59 : decode cX6_weightOfPath 59 = .ok (.iadd, 1) := dk_96 (dk_at dksX6_weightOfPath_2 11 rfl rfl)
theorem dX6_weightOfPath_60 : decode cX6_weightOfPath 60 = .ok (.laload, 1) := dk_47 (dk_at dksX6_weightOfPath_2 12 rfl rfl)
theorem dX6_weightOfPath_61 : decode cX6_weightOfPath 61 = .ok (.iload 4, 2) := dk_21 4 (dk_at dksX6_weightOfPath_2 13 rfl rfl)
theorem dX6_weightOfPath_63 : decode cX6_weightOfPath 63 = .ok (.ifCond .ne 13, 3) := dk_154 0 13 (dk_at dksX6_weightOfPath_2 15 rfl rfl)
theorem dX6_weightOfPath_66 : decode cX6_weightOfPath 66 = .ok (.aload_n 0, 1) := dk_42 (dk_at dksX6_weightOfPath_2 18 rfl rfl)
theorem dX6_weightOfPath_67 : decode cX6_weightOfPath 67 = .ok (.getfield 42, 3) := dk_180 0 42 (dk_at dksX6_weightOfPath_2 19 rfl rfl)
theorem dX6_weightOfPath_70 : decode cX6_weightOfPath 70 = .ok (.iload 5, 2) := dk_21 5 (dk_at dksX6_weightOfPath_2 22 rfl rfl)
theorem dX6_weightOfPath_72 : decode cX6_weightOfPath 72 = .ok (.laload, 1) := dk_47 (dk_at dksX6_weightOfPath_3 0 rfl rfl)
theorem dX6_weightOfPath_73 : decode cX6_weightOfPath 73 = .ok (.goto 22, 3) := dk_167 0 22 (dk_at dksX6_weightOfPath_3 1 rfl rfl)
theorem dX6_weightOfPath_76 : decode cX6_weightOfPath 76 = .ok (.aload_n 0, 1) := dk_42 (dk_at dksX6_weightOfPath_3 4 rfl rfl)
theorem dX6_weightOfPath_77 : decode cX6_weightOfPath 77 = .ok (.getfield 39, 3) := dk_180 0 39 (dk_at dksX6_weightOfPath_3 5 rfl rfl)
theorem dX6_weightOfPath_80 : decode cX6_weightOfPath 80 = .ok (.iconst 5, 1) := dk_8 (dk_at dksX6_weightOfPath_3 8 rfl rfl)
theorem dX6_weightOfPath_81 : decode cX6_weightOfPath 81 = .ok (.aload_n 0, 1) := dk_42 (dk_at dksX6_weightOfPath_3 9 rfl rfl)
theorem dX6_weightOfPath_82 : decode cX6_weightOfPath 82 = .ok (.iload_n 1, 1) := dk_27 (dk_at dksX6_weightOfPath_3 10 rfl rfl)
theorem dX6_weightOfPath_83 : decode cX6_weightOfPath 83 = .ok (.iload 4, 2) := dk_21 4 (dk_at dksX6_weightOfPath_3 11 rfl rfl)
theorem dX6_weightOfPath_85 : decode cX6_weightOfPath 85 = .ok (.iconst 1, 1) := dk_4 (dk_at dksX6_weightOfPath_3 13 rfl rfl)
theorem dX6_weightOfPath_86 : decode cX6_weightOfPath 86 = .ok (.isub, 1) := dk_100 (dk_at dksX6_weightOfPath_3 14 rfl rfl)
theorem dX6_weightOfPath_87 : decode cX6_weightOfPath 87 = .ok (.invokevirtual 105, 3) := dk_182 0 105 (dk_at dksX6_weightOfPath_3 15 rfl rfl)
theorem dX6_weightOfPath_90 : decode cX6_weightOfPath 90 = .ok (.imul, 1) := dk_104 (dk_at dksX6_weightOfPath_3 18 rfl rfl)
theorem dX6_weightOfPath_91 : decode cX6_weightOfPath 91 = .ok (.iload 5, 2) := dk_21 5 (dk_at dksX6_weightOfPath_3 19 rfl rfl)
theorem dX6_weightOfPath_93 : decode cX6_weightOfPath 93 = .ok (.iadd, 1) := dk_96 (dk_at dksX6_weightOfPath_3 21 rfl rfl)
theorem dX6_weightOfPath_94 : decode cX6_weightOfPath 94 = .ok (.laload, 1) := dk_47 (dk_at dksX6_weightOfPath_3 22 rfl rfl)
theorem dX6_weightOfPath_95 : decode cX6_weightOfPath 95 = .ok (.lmul, 1) := dk_105 (dk_at dksX6_weightOfPath_3 23 rfl rfl)
theorem dX6_weightOfPath_96 : decode cX6_weightOfPath 96 = .ok (.lmul, 1) := dk_105 (dk_at dksX6_weightOfPath_4 0 rfl rfl)
theorem dX6_weightOfPath_97 : decode cX6_weightOfPath 97 = .ok (.lstore_n 2, 1) := dk_65 (dk_at dksX6_weightOfPath_4 1 rfl rfl)
theorem dX6_weightOfPath_98 : decode cX6_weightOfPath 98 = .ok (.iinc 4 1, 3) := dk_132 4 1 (dk_at dksX6_weightOfPath_4 2 rfl rfl)
theorem dX6_weightOfPath_101 : decode cX6_weightOfPath 101 = .ok (.goto (-96), 3) := dk_167 255 160 (dk_at dksX6_weightOfPath_4 5 rfl rfl)
theorem dX6_weightOfPath_104 : decode cX6_weightOfPath 104 = .ok (.lload_n 2, 1) := dk_32 (dk_at dksX6_weightOfPath_4 8 rfl rfl)
theorem dX6_weightOfPath_105 : decode cX6_weightOfPath 105 = .ok (.lreturn, 1) := dk_173 (dk_at dksX6_weightOfPath_4 9 rfl rfl)
abbrev cX6_tagAt : ByteArray := prog_13_method_21_code
def yX6_tagAt : MethodName := ⟨RX6, "tagAt", "(II)I"⟩
def dkwX6_tagAt_1 : List UInt8 := [167, 255, 243, 29, 8, 112, 172]
abbrev dktX6_tagAt_1 : List UInt8 := dkwX6_tagAt_1 ++ []
def dkwX6_tagAt_0 : List UInt8 := [27, 62, 42, 180, 0, 62, 4, 100, 54, 4, 21, 4, 28, 164, 0, 13, 29, 8, 108, 62, 132, 4, 255]
abbrev dktX6_tagAt_0 : List UInt8 := dkwX6_tagAt_0 ++ dktX6_tagAt_1
theorem dksX6_tagAt_0 : cX6_tagAt.data.toList.drop 0 = dktX6_tagAt_0 := by decide +kernel
theorem dksX6_tagAt_1 : cX6_tagAt.data.toList.drop 23 = dktX6_tagAt_1 := dk_seg dksX6_tagAt_0 23 rfl rfl
theorem dX6_tagAt_0 : decode cX6_tagAt 0 = .ok (.iload_n 1, 1) := dk_27 (dk_at dksX6_tagAt_0 0 rfl rfl)
theorem dX6_tagAt_1 : decode cX6_tagAt 1 = .ok (.istore_n 3, 1) := dk_62 (dk_at dksX6_tagAt_0 1 rfl rfl)
theorem dX6_tagAt_2 : decode cX6_tagAt 2 = .ok (.aload_n 0, 1) := dk_42 (dk_at dksX6_tagAt_0 2 rfl rfl)
theorem dX6_tagAt_3 : decode cX6_tagAt 3 = .ok (.getfield 62, 3) := dk_180 0 62 (dk_at dksX6_tagAt_0 3 rfl rfl)
theorem dX6_tagAt_6 : decode cX6_tagAt 6 = .ok (.iconst 1, 1) := dk_4 (dk_at dksX6_tagAt_0 6 rfl rfl)
theorem dX6_tagAt_7 : decode cX6_tagAt 7 = .ok (.isub, 1) := dk_100 (dk_at dksX6_tagAt_0 7 rfl rfl)
theorem dX6_tagAt_8 : decode cX6_tagAt 8 = .ok (.istore 4, 2) := dk_54 4 (dk_at dksX6_tagAt_0 8 rfl rfl)
theorem dX6_tagAt_10 : decode cX6_tagAt 10 = .ok (.iload 4, 2) := dk_21 4 (dk_at dksX6_tagAt_0 10 rfl rfl)
theorem dX6_tagAt_12 : decode cX6_tagAt 12 = .ok (.iload_n 2, 1) := dk_28 (dk_at dksX6_tagAt_0 12 rfl rfl)
theorem dX6_tagAt_13 : decode cX6_tagAt 13 = .ok (.if_icmp .le 13, 3) := dk_164 0 13 (dk_at dksX6_tagAt_0 13 rfl rfl)
theorem dX6_tagAt_16 : decode cX6_tagAt 16 = .ok (.iload_n 3, 1) := dk_29 (dk_at dksX6_tagAt_0 16 rfl rfl)
theorem dX6_tagAt_17 : decode cX6_tagAt 17 = .ok (.iconst 5, 1) := dk_8 (dk_at dksX6_tagAt_0 17 rfl rfl)
theorem dX6_tagAt_18 : decode cX6_tagAt 18 = .ok (.idiv, 1) := dk_108 (dk_at dksX6_tagAt_0 18 rfl rfl)
theorem dX6_tagAt_19 : decode cX6_tagAt 19 = .ok (.istore_n 3, 1) := dk_62 (dk_at dksX6_tagAt_0 19 rfl rfl)
theorem dX6_tagAt_20 : decode cX6_tagAt 20 = .ok (.iinc 4 (-1), 3) := dk_132 4 255 (dk_at dksX6_tagAt_0 20 rfl rfl)
theorem dX6_tagAt_23 : decode cX6_tagAt 23 = .ok (.goto (-13), 3) := dk_167 255 243 (dk_at dksX6_tagAt_1 0 rfl rfl)
theorem dX6_tagAt_26 : decode cX6_tagAt 26 = .ok (.iload_n 3, 1) := dk_29 (dk_at dksX6_tagAt_1 3 rfl rfl)
theorem dX6_tagAt_27 : decode cX6_tagAt 27 = .ok (.iconst 5, 1) := dk_8 (dk_at dksX6_tagAt_1 4 rfl rfl)
theorem dX6_tagAt_28 : decode cX6_tagAt 28 = .ok (.irem, 1) := dk_112 (dk_at dksX6_tagAt_1 5 rfl rfl)
theorem dX6_tagAt_29 : decode cX6_tagAt 29 = .ok (.ireturn, 1) := dk_172 (dk_at dksX6_tagAt_1 6 rfl rfl)
abbrev cX6_pathAnew : ByteArray := prog_13_method_29_code
def yX6_pathAnew : MethodName := ⟨RX6, "pathAnew", "(II)I"⟩
def dkwX6_pathAnew_0 : List UInt8 := [42, 27, 28, 182, 0, 135, 172]
abbrev dktX6_pathAnew_0 : List UInt8 := dkwX6_pathAnew_0 ++ []
theorem dksX6_pathAnew_0 : cX6_pathAnew.data.toList.drop 0 = dktX6_pathAnew_0 := by decide +kernel
theorem dX6_pathAnew_0 : decode cX6_pathAnew 0 = .ok (.aload_n 0, 1) := dk_42 (dk_at dksX6_pathAnew_0 0 rfl rfl)
theorem dX6_pathAnew_1 : decode cX6_pathAnew 1 = .ok (.iload_n 1, 1) := dk_27 (dk_at dksX6_pathAnew_0 1 rfl rfl)
theorem dX6_pathAnew_2 : decode cX6_pathAnew 2 = .ok (.iload_n 2, 1) := dk_28 (dk_at dksX6_pathAnew_0 2 rfl rfl)
theorem dX6_pathAnew_3 : decode cX6_pathAnew 3 = .ok (.invokevirtual 135, 3) := dk_182 0 135 (dk_at dksX6_pathAnew_0 3 rfl rfl)
theorem dX6_pathAnew_6 : decode cX6_pathAnew 6 = .ok (.ireturn, 1) := dk_172 (dk_at dksX6_pathAnew_0 6 rfl rfl)
abbrev cX6_product : ByteArray := prog_13_method_31_code
def yX6_product : MethodName := ⟨RX6, "product", "(I)J"⟩
def dkwX6_product_1 : List UInt8 := [182, 0, 68, 153, 0, 11, 42, 27, 182, 0, 138, 167, 0, 4, 9, 173]
abbrev dktX6_product_1 : List UInt8 := dkwX6_product_1 ++ []
def dkwX6_product_0 : List UInt8 := [42, 27, 184, 0, 128, 154, 0, 7, 4, 167, 0, 15, 42, 180, 0, 62, 154, 0, 7, 5, 167, 0, 4, 3]
abbrev dktX6_product_0 : List UInt8 := dkwX6_product_0 ++ dktX6_product_1
theorem dksX6_product_0 : cX6_product.data.toList.drop 0 = dktX6_product_0 := by decide +kernel
theorem dksX6_product_1 : cX6_product.data.toList.drop 24 = dktX6_product_1 := dk_seg dksX6_product_0 24 rfl rfl
theorem dX6_product_0 : decode cX6_product 0 = .ok (.aload_n 0, 1) := dk_42 (dk_at dksX6_product_0 0 rfl rfl)
theorem dX6_product_1 : decode cX6_product 1 = .ok (.iload_n 1, 1) := dk_27 (dk_at dksX6_product_0 1 rfl rfl)
theorem dX6_product_2 : decode cX6_product 2 = .ok (.invokestatic 128, 3) := dk_184 0 128 (dk_at dksX6_product_0 2 rfl rfl)
theorem dX6_product_5 : decode cX6_product 5 = .ok (.ifCond .ne 7, 3) := dk_154 0 7 (dk_at dksX6_product_0 5 rfl rfl)
theorem dX6_product_8 : decode cX6_product 8 = .ok (.iconst 1, 1) := dk_4 (dk_at dksX6_product_0 8 rfl rfl)
theorem dX6_product_9 : decode cX6_product 9 = .ok (.goto 15, 3) := dk_167 0 15 (dk_at dksX6_product_0 9 rfl rfl)
theorem dX6_product_12 : decode cX6_product 12 = .ok (.aload_n 0, 1) := dk_42 (dk_at dksX6_product_0 12 rfl rfl)
theorem dX6_product_13 : decode cX6_product 13 = .ok (.getfield 62, 3) := dk_180 0 62 (dk_at dksX6_product_0 13 rfl rfl)
theorem dX6_product_16 : decode cX6_product 16 = .ok (.ifCond .ne 7, 3) := dk_154 0 7 (dk_at dksX6_product_0 16 rfl rfl)
theorem dX6_product_19 : decode cX6_product 19 = .ok (.iconst 2, 1) := dk_5 (dk_at dksX6_product_0 19 rfl rfl)
theorem dX6_product_20 : decode cX6_product 20 = .ok (.goto 4, 3) := dk_167 0 4 (dk_at dksX6_product_0 20 rfl rfl)
theorem dX6_product_23 : decode cX6_product 23 = .ok (.iconst 0, 1) := dk_3 (dk_at dksX6_product_0 23 rfl rfl)
theorem dX6_product_24 : decode cX6_product 24 = .ok (.invokevirtual 68, 3) := dk_182 0 68 (dk_at dksX6_product_1 0 rfl rfl)
theorem dX6_product_27 : decode cX6_product 27 = .ok (.ifCond .eq 11, 3) := dk_153 0 11 (dk_at dksX6_product_1 3 rfl rfl)
theorem dX6_product_30 : decode cX6_product 30 = .ok (.aload_n 0, 1) := dk_42 (dk_at dksX6_product_1 6 rfl rfl)
theorem dX6_product_31 : decode cX6_product 31 = .ok (.iload_n 1, 1) := dk_27 (dk_at dksX6_product_1 7 rfl rfl)
theorem dX6_product_32 : decode cX6_product 32 = .ok (.invokevirtual 138, 3) := dk_182 0 138 (dk_at dksX6_product_1 8 rfl rfl)
theorem dX6_product_35 : decode cX6_product 35 = .ok (.goto 4, 3) := dk_167 0 4 (dk_at dksX6_product_1 11 rfl rfl)
theorem dX6_product_38 : decode cX6_product 38 = .ok (.lconst 0, 1) := dk_9 (dk_at dksX6_product_1 14 rfl rfl)
theorem dX6_product_39 : decode cX6_product 39 = .ok (.lreturn, 1) := dk_173 (dk_at dksX6_product_1 15 rfl rfl)
abbrev cX6_weightOfRank : ByteArray := prog_13_method_30_code
def yX6_weightOfRank : MethodName := ⟨RX6, "weightOfRank", "(I)J"⟩
def dkwX6_weightOfRank_1 : List UInt8 := [173]
abbrev dktX6_weightOfRank_1 : List UInt8 := dkwX6_weightOfRank_1 ++ []
def dkwX6_weightOfRank_0 : List UInt8 := [42, 3, 3, 182, 0, 131, 27, 42, 180, 0, 111, 162, 0, 12, 42, 180, 0, 45, 27, 47, 167, 0, 4, 9]
abbrev dktX6_weightOfRank_0 : List UInt8 := dkwX6_weightOfRank_0 ++ dktX6_weightOfRank_1
theorem dksX6_weightOfRank_0 : cX6_weightOfRank.data.toList.drop 0 = dktX6_weightOfRank_0 := by decide +kernel
theorem dksX6_weightOfRank_1 : cX6_weightOfRank.data.toList.drop 24 = dktX6_weightOfRank_1 := dk_seg dksX6_weightOfRank_0 24 rfl rfl
theorem dX6_weightOfRank_0 : decode cX6_weightOfRank 0 = .ok (.aload_n 0, 1) := dk_42 (dk_at dksX6_weightOfRank_0 0 rfl rfl)
theorem dX6_weightOfRank_1 : decode cX6_weightOfRank 1 = .ok (.iconst 0, 1) := dk_3 (dk_at dksX6_weightOfRank_0 1 rfl rfl)
theorem dX6_weightOfRank_2 : decode cX6_weightOfRank 2 = .ok (.iconst 0, 1) := dk_3 (dk_at dksX6_weightOfRank_0 2 rfl rfl)
theorem dX6_weightOfRank_3 : decode cX6_weightOfRank 3 = .ok (.invokevirtual 131, 3) := dk_182 0 131 (dk_at dksX6_weightOfRank_0 3 rfl rfl)
theorem dX6_weightOfRank_6 : decode cX6_weightOfRank 6 = .ok (.iload_n 1, 1) := dk_27 (dk_at dksX6_weightOfRank_0 6 rfl rfl)
theorem dX6_weightOfRank_7 : decode cX6_weightOfRank 7 = .ok (.aload_n 0, 1) := dk_42 (dk_at dksX6_weightOfRank_0 7 rfl rfl)
theorem dX6_weightOfRank_8 : decode cX6_weightOfRank 8 = .ok (.getfield 111, 3) := dk_180 0 111 (dk_at dksX6_weightOfRank_0 8 rfl rfl)
theorem dX6_weightOfRank_11 : decode cX6_weightOfRank 11 = .ok (.if_icmp .ge 12, 3) := dk_162 0 12 (dk_at dksX6_weightOfRank_0 11 rfl rfl)
theorem dX6_weightOfRank_14 : decode cX6_weightOfRank 14 = .ok (.aload_n 0, 1) := dk_42 (dk_at dksX6_weightOfRank_0 14 rfl rfl)
theorem dX6_weightOfRank_15 : decode cX6_weightOfRank 15 = .ok (.getfield 45, 3) := dk_180 0 45 (dk_at dksX6_weightOfRank_0 15 rfl rfl)
theorem dX6_weightOfRank_18 : decode cX6_weightOfRank 18 = .ok (.iload_n 1, 1) := dk_27 (dk_at dksX6_weightOfRank_0 18 rfl rfl)
theorem dX6_weightOfRank_19 : decode cX6_weightOfRank 19 = .ok (.laload, 1) := dk_47 (dk_at dksX6_weightOfRank_0 19 rfl rfl)
theorem dX6_weightOfRank_20 : decode cX6_weightOfRank 20 = .ok (.goto 4, 3) := dk_167 0 4 (dk_at dksX6_weightOfRank_0 20 rfl rfl)
theorem dX6_weightOfRank_23 : decode cX6_weightOfRank 23 = .ok (.lconst 0, 1) := dk_9 (dk_at dksX6_weightOfRank_0 23 rfl rfl)
theorem dX6_weightOfRank_24 : decode cX6_weightOfRank 24 = .ok (.lreturn, 1) := dk_173 (dk_at dksX6_weightOfRank_1 0 rfl rfl)
abbrev cX6_cost : ByteArray := prog_13_method_32_code
def yX6_cost : MethodName := ⟨RX6, "cost", "()I"⟩
def dkwX6_cost_2 : List UInt8 := [167, 255, 239, 27, 172]
abbrev dktX6_cost_2 : List UInt8 := dkwX6_cost_2 ++ []
def dkwX6_cost_1 : List UInt8 := [3, 182, 0, 138, 65, 32, 20, 0, 141, 148, 157, 0, 15, 132, 1, 1, 32, 20, 0, 143, 105, 65]
abbrev dktX6_cost_1 : List UInt8 := dkwX6_cost_1 ++ dktX6_cost_2
def dkwX6_cost_0 : List UInt8 := [42, 42, 180, 0, 62, 154, 0, 7, 4, 167, 0, 4, 3, 182, 0, 68, 154, 0, 5, 3, 172, 3, 60, 42]
abbrev dktX6_cost_0 : List UInt8 := dkwX6_cost_0 ++ dktX6_cost_1
theorem dksX6_cost_0 : cX6_cost.data.toList.drop 0 = dktX6_cost_0 := by decide +kernel
theorem dksX6_cost_1 : cX6_cost.data.toList.drop 24 = dktX6_cost_1 := dk_seg dksX6_cost_0 24 rfl rfl
theorem dksX6_cost_2 : cX6_cost.data.toList.drop 46 = dktX6_cost_2 := dk_seg dksX6_cost_1 22 rfl rfl
theorem dX6_cost_0 : decode cX6_cost 0 = .ok (.aload_n 0, 1) := dk_42 (dk_at dksX6_cost_0 0 rfl rfl)
theorem dX6_cost_1 : decode cX6_cost 1 = .ok (.aload_n 0, 1) := dk_42 (dk_at dksX6_cost_0 1 rfl rfl)
theorem dX6_cost_2 : decode cX6_cost 2 = .ok (.getfield 62, 3) := dk_180 0 62 (dk_at dksX6_cost_0 2 rfl rfl)
theorem dX6_cost_5 : decode cX6_cost 5 = .ok (.ifCond .ne 7, 3) := dk_154 0 7 (dk_at dksX6_cost_0 5 rfl rfl)
theorem dX6_cost_8 : decode cX6_cost 8 = .ok (.iconst 1, 1) := dk_4 (dk_at dksX6_cost_0 8 rfl rfl)
theorem dX6_cost_9 : decode cX6_cost 9 = .ok (.goto 4, 3) := dk_167 0 4 (dk_at dksX6_cost_0 9 rfl rfl)
theorem dX6_cost_12 : decode cX6_cost 12 = .ok (.iconst 0, 1) := dk_3 (dk_at dksX6_cost_0 12 rfl rfl)
theorem dX6_cost_13 : decode cX6_cost 13 = .ok (.invokevirtual 68, 3) := dk_182 0 68 (dk_at dksX6_cost_0 13 rfl rfl)
theorem dX6_cost_16 : decode cX6_cost 16 = .ok (.ifCond .ne 5, 3) := dk_154 0 5 (dk_at dksX6_cost_0 16 rfl rfl)
theorem dX6_cost_19 : decode cX6_cost 19 = .ok (.iconst 0, 1) := dk_3 (dk_at dksX6_cost_0 19 rfl rfl)
theorem dX6_cost_20 : decode cX6_cost 20 = .ok (.ireturn, 1) := dk_172 (dk_at dksX6_cost_0 20 rfl rfl)
theorem dX6_cost_21 : decode cX6_cost 21 = .ok (.iconst 0, 1) := dk_3 (dk_at dksX6_cost_0 21 rfl rfl)
theorem dX6_cost_22 : decode cX6_cost 22 = .ok (.istore_n 1, 1) := dk_60 (dk_at dksX6_cost_0 22 rfl rfl)
theorem dX6_cost_23 : decode cX6_cost 23 = .ok (.aload_n 0, 1) := dk_42 (dk_at dksX6_cost_0 23 rfl rfl)
theorem dX6_cost_24 : decode cX6_cost 24 = .ok (.iconst 0, 1) := dk_3 (dk_at dksX6_cost_1 0 rfl rfl)
theorem dX6_cost_25 : decode cX6_cost 25 = .ok (.invokevirtual 138, 3) := dk_182 0 138 (dk_at dksX6_cost_1 1 rfl rfl)
theorem dX6_cost_28 : decode cX6_cost 28 = .ok (.lstore_n 2, 1) := dk_65 (dk_at dksX6_cost_1 4 rfl rfl)
theorem dX6_cost_29 : decode cX6_cost 29 = .ok (.lload_n 2, 1) := dk_32 (dk_at dksX6_cost_1 5 rfl rfl)
theorem dX6_cost_30 : decode cX6_cost 30 = .ok (.ldc2_w 141, 3) := dk_20 0 141 (dk_at dksX6_cost_1 6 rfl rfl)
theorem dX6_cost_33 : decode cX6_cost 33 = .ok (.lcmp, 1) := dk_148 (dk_at dksX6_cost_1 9 rfl rfl)
theorem dX6_cost_34 : decode cX6_cost 34 = .ok (.ifCond .gt 15, 3) := dk_157 0 15 (dk_at dksX6_cost_1 10 rfl rfl)
theorem dX6_cost_37 : decode cX6_cost 37 = .ok (.iinc 1 1, 3) := dk_132 1 1 (dk_at dksX6_cost_1 13 rfl rfl)
theorem dX6_cost_40 : decode cX6_cost 40 = .ok (.lload_n 2, 1) := dk_32 (dk_at dksX6_cost_1 16 rfl rfl)
theorem dX6_cost_41 : decode cX6_cost 41 = .ok (.ldc2_w 143, 3) := dk_20 0 143 (dk_at dksX6_cost_1 17 rfl rfl)
theorem dX6_cost_44 : decode cX6_cost 44 = .ok (.lmul, 1) := dk_105 (dk_at dksX6_cost_1 20 rfl rfl)
theorem dX6_cost_45 : decode cX6_cost 45 = .ok (.lstore_n 2, 1) := dk_65 (dk_at dksX6_cost_1 21 rfl rfl)
theorem dX6_cost_46 : decode cX6_cost 46 = .ok (.goto (-17), 3) := dk_167 255 239 (dk_at dksX6_cost_2 0 rfl rfl)
theorem dX6_cost_49 : decode cX6_cost 49 = .ok (.iload_n 1, 1) := dk_27 (dk_at dksX6_cost_2 3 rfl rfl)
theorem dX6_cost_50 : decode cX6_cost 50 = .ok (.ireturn, 1) := dk_172 (dk_at dksX6_cost_2 4 rfl rfl)
abbrev cX6_share : ByteArray := prog_13_method_34_code
def yX6_share : MethodName := ⟨RX6, "share", "(II)I"⟩
def dkwX6_share_0 : List UInt8 := [42, 27, 28, 182, 0, 147, 172]
abbrev dktX6_share_0 : List UInt8 := dkwX6_share_0 ++ []
theorem dksX6_share_0 : cX6_share.data.toList.drop 0 = dktX6_share_0 := by decide +kernel
theorem dX6_share_0 : decode cX6_share 0 = .ok (.aload_n 0, 1) := dk_42 (dk_at dksX6_share_0 0 rfl rfl)
theorem dX6_share_1 : decode cX6_share 1 = .ok (.iload_n 1, 1) := dk_27 (dk_at dksX6_share_0 1 rfl rfl)
theorem dX6_share_2 : decode cX6_share 2 = .ok (.iload_n 2, 1) := dk_28 (dk_at dksX6_share_0 2 rfl rfl)
theorem dX6_share_3 : decode cX6_share 3 = .ok (.invokevirtual 147, 3) := dk_182 0 147 (dk_at dksX6_share_0 3 rfl rfl)
theorem dX6_share_6 : decode cX6_share 6 = .ok (.ireturn, 1) := dk_172 (dk_at dksX6_share_0 6 rfl rfl)
abbrev cX6_shareOf : ByteArray := prog_13_method_33_code
def yX6_shareOf : MethodName := ⟨RX6, "shareOf", "(II)I"⟩
def dkwX6_shareOf_2 : List UInt8 := [136, 172]
abbrev dktX6_shareOf_2 : List UInt8 := dkwX6_shareOf_2 ++ []
def dkwX6_shareOf_1 : List UInt8 := [154, 0, 5, 3, 172, 42, 27, 28, 182, 0, 131, 20, 0, 145, 42, 180, 0, 118, 105, 42, 180, 0, 114, 109]
abbrev dktX6_shareOf_1 : List UInt8 := dkwX6_shareOf_1 ++ dktX6_shareOf_2
def dkwX6_shareOf_0 : List UInt8 := [42, 42, 27, 182, 0, 85, 153, 0, 14, 28, 184, 0, 72, 153, 0, 7, 3, 167, 0, 4, 4, 182, 0, 68]
abbrev dktX6_shareOf_0 : List UInt8 := dkwX6_shareOf_0 ++ dktX6_shareOf_1
theorem dksX6_shareOf_0 : cX6_shareOf.data.toList.drop 0 = dktX6_shareOf_0 := by decide +kernel
theorem dksX6_shareOf_1 : cX6_shareOf.data.toList.drop 24 = dktX6_shareOf_1 := dk_seg dksX6_shareOf_0 24 rfl rfl
theorem dksX6_shareOf_2 : cX6_shareOf.data.toList.drop 48 = dktX6_shareOf_2 := dk_seg dksX6_shareOf_1 24 rfl rfl
theorem dX6_shareOf_0 : decode cX6_shareOf 0 = .ok (.aload_n 0, 1) := dk_42 (dk_at dksX6_shareOf_0 0 rfl rfl)
theorem dX6_shareOf_1 : decode cX6_shareOf 1 = .ok (.aload_n 0, 1) := dk_42 (dk_at dksX6_shareOf_0 1 rfl rfl)
theorem dX6_shareOf_2 : decode cX6_shareOf 2 = .ok (.iload_n 1, 1) := dk_27 (dk_at dksX6_shareOf_0 2 rfl rfl)
theorem dX6_shareOf_3 : decode cX6_shareOf 3 = .ok (.invokevirtual 85, 3) := dk_182 0 85 (dk_at dksX6_shareOf_0 3 rfl rfl)
theorem dX6_shareOf_6 : decode cX6_shareOf 6 = .ok (.ifCond .eq 14, 3) := dk_153 0 14 (dk_at dksX6_shareOf_0 6 rfl rfl)
theorem dX6_shareOf_9 : decode cX6_shareOf 9 = .ok (.iload_n 2, 1) := dk_28 (dk_at dksX6_shareOf_0 9 rfl rfl)
theorem dX6_shareOf_10 : decode cX6_shareOf 10 = .ok (.invokestatic 72, 3) := dk_184 0 72 (dk_at dksX6_shareOf_0 10 rfl rfl)
theorem dX6_shareOf_13 : decode cX6_shareOf 13 = .ok (.ifCond .eq 7, 3) := dk_153 0 7 (dk_at dksX6_shareOf_0 13 rfl rfl)
theorem dX6_shareOf_16 : decode cX6_shareOf 16 = .ok (.iconst 0, 1) := dk_3 (dk_at dksX6_shareOf_0 16 rfl rfl)
theorem dX6_shareOf_17 : decode cX6_shareOf 17 = .ok (.goto 4, 3) := dk_167 0 4 (dk_at dksX6_shareOf_0 17 rfl rfl)
theorem dX6_shareOf_20 : decode cX6_shareOf 20 = .ok (.iconst 1, 1) := dk_4 (dk_at dksX6_shareOf_0 20 rfl rfl)
theorem dX6_shareOf_21 : decode cX6_shareOf 21 = .ok (.invokevirtual 68, 3) := dk_182 0 68 (dk_at dksX6_shareOf_0 21 rfl rfl)
theorem dX6_shareOf_24 : decode cX6_shareOf 24 = .ok (.ifCond .ne 5, 3) := dk_154 0 5 (dk_at dksX6_shareOf_1 0 rfl rfl)
theorem dX6_shareOf_27 : decode cX6_shareOf 27 = .ok (.iconst 0, 1) := dk_3 (dk_at dksX6_shareOf_1 3 rfl rfl)
theorem dX6_shareOf_28 : decode cX6_shareOf 28 = .ok (.ireturn, 1) := dk_172 (dk_at dksX6_shareOf_1 4 rfl rfl)
theorem dX6_shareOf_29 : decode cX6_shareOf 29 = .ok (.aload_n 0, 1) := dk_42 (dk_at dksX6_shareOf_1 5 rfl rfl)
theorem dX6_shareOf_30 : decode cX6_shareOf 30 = .ok (.iload_n 1, 1) := dk_27 (dk_at dksX6_shareOf_1 6 rfl rfl)
theorem dX6_shareOf_31 : decode cX6_shareOf 31 = .ok (.iload_n 2, 1) := dk_28 (dk_at dksX6_shareOf_1 7 rfl rfl)
theorem dX6_shareOf_32 : decode cX6_shareOf 32 = .ok (.invokevirtual 131, 3) := dk_182 0 131 (dk_at dksX6_shareOf_1 8 rfl rfl)
theorem dX6_shareOf_35 : decode cX6_shareOf 35 = .ok (.ldc2_w 145, 3) := dk_20 0 145 (dk_at dksX6_shareOf_1 11 rfl rfl)
theorem dX6_shareOf_38 : decode cX6_shareOf 38 = .ok (.aload_n 0, 1) := dk_42 (dk_at dksX6_shareOf_1 14 rfl rfl)
theorem dX6_shareOf_39 : decode cX6_shareOf 39 = .ok (.getfield 118, 3) := dk_180 0 118 (dk_at dksX6_shareOf_1 15 rfl rfl)
theorem dX6_shareOf_42 : decode cX6_shareOf 42 = .ok (.lmul, 1) := dk_105 (dk_at dksX6_shareOf_1 18 rfl rfl)
theorem dX6_shareOf_43 : decode cX6_shareOf 43 = .ok (.aload_n 0, 1) := dk_42 (dk_at dksX6_shareOf_1 19 rfl rfl)
theorem dX6_shareOf_44 : decode cX6_shareOf 44 = .ok (.getfield 114, 3) := dk_180 0 114 (dk_at dksX6_shareOf_1 20 rfl rfl)
theorem dX6_shareOf_47 : decode cX6_shareOf 47 = .ok (.ldiv, 1) := dk_109 (dk_at dksX6_shareOf_1 23 rfl rfl)
theorem dX6_shareOf_48 : decode cX6_shareOf 48 = .ok (.l2i, 1) := dk_136 (dk_at dksX6_shareOf_2 0 rfl rfl)
theorem dX6_shareOf_49 : decode cX6_shareOf 49 = .ok (.ireturn, 1) := dk_172 (dk_at dksX6_shareOf_2 1 rfl rfl)
abbrev cX6_shareAnew : ByteArray := prog_13_method_35_code
def yX6_shareAnew : MethodName := ⟨RX6, "shareAnew", "(II)I"⟩
def dkwX6_shareAnew_0 : List UInt8 := [42, 27, 28, 182, 0, 147, 172]
abbrev dktX6_shareAnew_0 : List UInt8 := dkwX6_shareAnew_0 ++ []
theorem dksX6_shareAnew_0 : cX6_shareAnew.data.toList.drop 0 = dktX6_shareAnew_0 := by decide +kernel
theorem dX6_shareAnew_0 : decode cX6_shareAnew 0 = .ok (.aload_n 0, 1) := dk_42 (dk_at dksX6_shareAnew_0 0 rfl rfl)
theorem dX6_shareAnew_1 : decode cX6_shareAnew 1 = .ok (.iload_n 1, 1) := dk_27 (dk_at dksX6_shareAnew_0 1 rfl rfl)
theorem dX6_shareAnew_2 : decode cX6_shareAnew 2 = .ok (.iload_n 2, 1) := dk_28 (dk_at dksX6_shareAnew_0 2 rfl rfl)
theorem dX6_shareAnew_3 : decode cX6_shareAnew 3 = .ok (.invokevirtual 147, 3) := dk_182 0 147 (dk_at dksX6_shareAnew_0 3 rfl rfl)
theorem dX6_shareAnew_6 : decode cX6_shareAnew 6 = .ok (.ireturn, 1) := dk_172 (dk_at dksX6_shareAnew_0 6 rfl rfl)
abbrev cX6_texts : ByteArray := prog_13_method_36_code
def yX6_texts : MethodName := ⟨RX6, "texts", "()I"⟩
def dkwX6_texts_1 : List UInt8 := [153, 0, 7, 4, 167, 0, 4, 3, 96, 60, 132, 2, 1, 167, 255, 228, 27, 172]
abbrev dktX6_texts_1 : List UInt8 := dkwX6_texts_1 ++ []
def dkwX6_texts_0 : List UInt8 := [42, 3, 181, 0, 55, 3, 60, 3, 61, 28, 42, 180, 0, 82, 162, 0, 26, 27, 42, 180, 0, 25, 28, 51]
abbrev dktX6_texts_0 : List UInt8 := dkwX6_texts_0 ++ dktX6_texts_1
theorem dksX6_texts_0 : cX6_texts.data.toList.drop 0 = dktX6_texts_0 := by decide +kernel
theorem dksX6_texts_1 : cX6_texts.data.toList.drop 24 = dktX6_texts_1 := dk_seg dksX6_texts_0 24 rfl rfl
theorem dX6_texts_0 : decode cX6_texts 0 = .ok (.aload_n 0, 1) := dk_42 (dk_at dksX6_texts_0 0 rfl rfl)
theorem dX6_texts_1 : decode cX6_texts 1 = .ok (.iconst 0, 1) := dk_3 (dk_at dksX6_texts_0 1 rfl rfl)
theorem dX6_texts_2 : decode cX6_texts 2 = .ok (.putfield 55, 3) := dk_181 0 55 (dk_at dksX6_texts_0 2 rfl rfl)
theorem dX6_texts_5 : decode cX6_texts 5 = .ok (.iconst 0, 1) := dk_3 (dk_at dksX6_texts_0 5 rfl rfl)
theorem dX6_texts_6 : decode cX6_texts 6 = .ok (.istore_n 1, 1) := dk_60 (dk_at dksX6_texts_0 6 rfl rfl)
theorem dX6_texts_7 : decode cX6_texts 7 = .ok (.iconst 0, 1) := dk_3 (dk_at dksX6_texts_0 7 rfl rfl)
theorem dX6_texts_8 : decode cX6_texts 8 = .ok (.istore_n 2, 1) := dk_61 (dk_at dksX6_texts_0 8 rfl rfl)
theorem dX6_texts_9 : decode cX6_texts 9 = .ok (.iload_n 2, 1) := dk_28 (dk_at dksX6_texts_0 9 rfl rfl)
theorem dX6_texts_10 : decode cX6_texts 10 = .ok (.aload_n 0, 1) := dk_42 (dk_at dksX6_texts_0 10 rfl rfl)
theorem dX6_texts_11 : decode cX6_texts 11 = .ok (.getfield 82, 3) := dk_180 0 82 (dk_at dksX6_texts_0 11 rfl rfl)
theorem dX6_texts_14 : decode cX6_texts 14 = .ok (.if_icmp .ge 26, 3) := dk_162 0 26 (dk_at dksX6_texts_0 14 rfl rfl)
theorem dX6_texts_17 : decode cX6_texts 17 = .ok (.iload_n 1, 1) := dk_27 (dk_at dksX6_texts_0 17 rfl rfl)
theorem dX6_texts_18 : decode cX6_texts 18 = .ok (.aload_n 0, 1) := dk_42 (dk_at dksX6_texts_0 18 rfl rfl)
theorem dX6_texts_19 : decode cX6_texts 19 = .ok (.getfield 25, 3) := dk_180 0 25 (dk_at dksX6_texts_0 19 rfl rfl)
theorem dX6_texts_22 : decode cX6_texts 22 = .ok (.iload_n 2, 1) := dk_28 (dk_at dksX6_texts_0 22 rfl rfl)
theorem dX6_texts_23 : decode cX6_texts 23 = .ok (.baload, 1) := dk_51 (dk_at dksX6_texts_0 23 rfl rfl)
theorem dX6_texts_24 : decode cX6_texts 24 = .ok (.ifCond .eq 7, 3) := dk_153 0 7 (dk_at dksX6_texts_1 0 rfl rfl)
theorem dX6_texts_27 : decode cX6_texts 27 = .ok (.iconst 1, 1) := dk_4 (dk_at dksX6_texts_1 3 rfl rfl)
theorem dX6_texts_28 : decode cX6_texts 28 = .ok (.goto 4, 3) := dk_167 0 4 (dk_at dksX6_texts_1 4 rfl rfl)
theorem dX6_texts_31 : decode cX6_texts 31 = .ok (.iconst 0, 1) := dk_3 (dk_at dksX6_texts_1 7 rfl rfl)
theorem dX6_texts_32 : decode cX6_texts 32 = .ok (.iadd, 1) := dk_96 (dk_at dksX6_texts_1 8 rfl rfl)
theorem dX6_texts_33 : decode cX6_texts 33 = .ok (.istore_n 1, 1) := dk_60 (dk_at dksX6_texts_1 9 rfl rfl)
theorem dX6_texts_34 : decode cX6_texts 34 = .ok (.iinc 2 1, 3) := dk_132 2 1 (dk_at dksX6_texts_1 10 rfl rfl)
theorem dX6_texts_37 : decode cX6_texts 37 = .ok (.goto (-28), 3) := dk_167 255 228 (dk_at dksX6_texts_1 13 rfl rfl)
theorem dX6_texts_40 : decode cX6_texts 40 = .ok (.iload_n 1, 1) := dk_27 (dk_at dksX6_texts_1 16 rfl rfl)
theorem dX6_texts_41 : decode cX6_texts 41 = .ok (.ireturn, 1) := dk_172 (dk_at dksX6_texts_1 17 rfl rfl)
theorem q46 : (Jvm.Cond.initialized "TrellistagModel") ∈ lw_all := lw_g (lw_at lw_m1 11 rfl) rfl
theorem q776 : (Jvm.Cond.selects "TrellistagModel" ({ cls := "java/lang/Object", name := "getClass", desc := "()Ljava/lang/Class;" } : Jvm.MethodName) ({ cls := "java/lang/Object", name := "getClass", desc := "()Ljava/lang/Class;" } : Jvm.MethodName)) ∈ lw_all := lw_g (lw_at lw_m4 21 rfl) rfl
theorem q1555 : (Jvm.Cond.instantiable "TrellistagModel" (22 : Nat)) ∈ lw_all := lw_g (lw_at lw_m7 80 rfl) rfl
theorem q1557 : (Jvm.Cond.instanceMethod ({ cls := "TrellistagModel", name := "<init>", desc := "()V" } : Jvm.MethodName)) ∈ lw_all := lw_g (lw_at lw_m7 82 rfl) rfl
theorem q1558 : (Jvm.Cond.code ({ cls := "TrellistagModel", name := "<init>", desc := "()V" } : Jvm.MethodName) prog_13_method_1_code (1 : Nat) (Option.none : Option Jvm.ClassFile.FieldType)) ∈ lw_all := lw_g (lw_at lw_m7 83 rfl) rfl
theorem q1559 : (Jvm.Cond.methodLink "TrellistagModel" (1 : Nat) ({ cls := "java/lang/Object", name := "<init>", desc := "()V" } : Jvm.MethodName)) ∈ lw_all := lw_g (lw_at lw_m7 84 rfl) rfl
theorem q1560 : (Jvm.Cond.fieldLink "TrellistagModel" (55 : Nat) "TrellistagModel" "thrown" "I") ∈ lw_all := lw_g (lw_at lw_m7 85 rfl) rfl
theorem q1561 : (Jvm.Cond.fieldLink "TrellistagModel" (51 : Nat) "TrellistagModel" "typed" "I") ∈ lw_all := lw_g (lw_at lw_m7 86 rfl) rfl
theorem q1562 : (Jvm.Cond.fieldLink "TrellistagModel" (65 : Nat) "TrellistagModel" "letters" "I") ∈ lw_all := lw_g (lw_at lw_m7 87 rfl) rfl
theorem q1563 : (Jvm.Cond.fieldLink "TrellistagModel" (7 : Nat) "TrellistagModel" "draft" "[I") ∈ lw_all := lw_g (lw_at lw_m7 88 rfl) rfl
theorem q1564 : (Jvm.Cond.fieldLink "TrellistagModel" (13 : Nat) "TrellistagModel" "draftTag" "[I") ∈ lw_all := lw_g (lw_at lw_m7 89 rfl) rfl
theorem q1565 : (Jvm.Cond.fieldLink "TrellistagModel" (75 : Nat) "TrellistagModel" "drafted" "I") ∈ lw_all := lw_g (lw_at lw_m7 90 rfl) rfl
theorem q1566 : (Jvm.Cond.fieldLink "TrellistagModel" (16 : Nat) "TrellistagModel" "its" "[I") ∈ lw_all := lw_g (lw_at lw_m7 91 rfl) rfl
theorem q1567 : (Jvm.Cond.fieldLink "TrellistagModel" (19 : Nat) "TrellistagModel" "tagOf" "[I") ∈ lw_all := lw_g (lw_at lw_m7 92 rfl) rfl
theorem q1568 : (Jvm.Cond.fieldLink "TrellistagModel" (22 : Nat) "TrellistagModel" "many" "[I") ∈ lw_all := lw_g (lw_at lw_m7 93 rfl) rfl
theorem q1569 : (Jvm.Cond.fieldLink "TrellistagModel" (25 : Nat) "TrellistagModel" "counts" "[Z") ∈ lw_all := lw_g (lw_at lw_m7 94 rfl) rfl
theorem q1570 : (Jvm.Cond.fieldLink "TrellistagModel" (82 : Nat) "TrellistagModel" "texts" "I") ∈ lw_all := lw_g (lw_at lw_m7 95 rfl) rfl
theorem q1571 : (Jvm.Cond.fieldLink "TrellistagModel" (29 : Nat) "TrellistagModel" "sentence" "[I") ∈ lw_all := lw_g (lw_at lw_m7 96 rfl) rfl
theorem q1572 : (Jvm.Cond.fieldLink "TrellistagModel" (32 : Nat) "TrellistagModel" "locked" "[I") ∈ lw_all := lw_g (lw_at lw_m7 97 rfl) rfl
theorem q1573 : (Jvm.Cond.fieldLink "TrellistagModel" (62 : Nat) "TrellistagModel" "places" "I") ∈ lw_all := lw_g (lw_at lw_m7 98 rfl) rfl
theorem q1574 : (Jvm.Cond.fieldLink "TrellistagModel" (35 : Nat) "TrellistagModel" "ofWord" "[J") ∈ lw_all := lw_g (lw_at lw_m7 99 rfl) rfl
theorem q1575 : (Jvm.Cond.fieldLink "TrellistagModel" (39 : Nat) "TrellistagModel" "ofStep" "[J") ∈ lw_all := lw_g (lw_at lw_m7 100 rfl) rfl
theorem q1576 : (Jvm.Cond.fieldLink "TrellistagModel" (42 : Nat) "TrellistagModel" "ofFirst" "[J") ∈ lw_all := lw_g (lw_at lw_m7 101 rfl) rfl
theorem q1577 : (Jvm.Cond.fieldLink "TrellistagModel" (45 : Nat) "TrellistagModel" "best" "[J") ∈ lw_all := lw_g (lw_at lw_m7 102 rfl) rfl
theorem q1578 : (Jvm.Cond.fieldLink "TrellistagModel" (48 : Nat) "TrellistagModel" "bestPath" "[I") ∈ lw_all := lw_g (lw_at lw_m7 103 rfl) rfl
theorem q1579 : (Jvm.Cond.fieldLink "TrellistagModel" (111 : Nat) "TrellistagModel" "found" "I") ∈ lw_all := lw_g (lw_at lw_m7 104 rfl) rfl
theorem q1580 : (Jvm.Cond.fieldLink "TrellistagModel" (114 : Nat) "TrellistagModel" "sum" "J") ∈ lw_all := lw_g (lw_at lw_m7 105 rfl) rfl
theorem q1581 : (Jvm.Cond.fieldLink "TrellistagModel" (118 : Nat) "TrellistagModel" "part" "J") ∈ lw_all := lw_g (lw_at lw_m7 106 rfl) rfl
theorem q1582 : (Jvm.Cond.lays "TrellistagModel" "TrellistagModel" "thrown" "I") ∈ lw_all := lw_g (lw_at lw_m7 107 rfl) rfl
theorem q1583 : (Jvm.Cond.soleField "TrellistagModel" "thrown") ∈ lw_all := lw_g (lw_at lw_m7 108 rfl) rfl
theorem q1584 : (Jvm.Cond.lays "TrellistagModel" "TrellistagModel" "typed" "I") ∈ lw_all := lw_g (lw_at lw_m7 109 rfl) rfl
theorem q1585 : (Jvm.Cond.soleField "TrellistagModel" "typed") ∈ lw_all := lw_g (lw_at lw_m7 110 rfl) rfl
theorem q1586 : (Jvm.Cond.lays "TrellistagModel" "TrellistagModel" "letters" "I") ∈ lw_all := lw_g (lw_at lw_m7 111 rfl) rfl
theorem q1587 : (Jvm.Cond.soleField "TrellistagModel" "letters") ∈ lw_all := lw_g (lw_at lw_m7 112 rfl) rfl
theorem q1588 : (Jvm.Cond.laysFinal "TrellistagModel" "TrellistagModel" "draft" "[I") ∈ lw_all := lw_g (lw_at lw_m7 113 rfl) rfl
theorem q1589 : (Jvm.Cond.soleField "TrellistagModel" "draft") ∈ lw_all := lw_g (lw_at lw_m7 114 rfl) rfl
theorem q1590 : (Jvm.Cond.laysFinal "TrellistagModel" "TrellistagModel" "draftTag" "[I") ∈ lw_all := lw_g (lw_at lw_m7 115 rfl) rfl
theorem q1591 : (Jvm.Cond.soleField "TrellistagModel" "draftTag") ∈ lw_all := lw_g (lw_at lw_m7 116 rfl) rfl
theorem q1592 : (Jvm.Cond.lays "TrellistagModel" "TrellistagModel" "drafted" "I") ∈ lw_all := lw_g (lw_at lw_m7 117 rfl) rfl
theorem q1593 : (Jvm.Cond.soleField "TrellistagModel" "drafted") ∈ lw_all := lw_g (lw_at lw_m7 118 rfl) rfl
theorem q1594 : (Jvm.Cond.laysFinal "TrellistagModel" "TrellistagModel" "its" "[I") ∈ lw_all := lw_g (lw_at lw_m7 119 rfl) rfl
theorem q1595 : (Jvm.Cond.soleField "TrellistagModel" "its") ∈ lw_all := lw_g (lw_at lw_m7 120 rfl) rfl
theorem q1596 : (Jvm.Cond.laysFinal "TrellistagModel" "TrellistagModel" "tagOf" "[I") ∈ lw_all := lw_g (lw_at lw_m7 121 rfl) rfl
theorem q1597 : (Jvm.Cond.soleField "TrellistagModel" "tagOf") ∈ lw_all := lw_g (lw_at lw_m7 122 rfl) rfl
theorem q1598 : (Jvm.Cond.laysFinal "TrellistagModel" "TrellistagModel" "many" "[I") ∈ lw_all := lw_g (lw_at lw_m7 123 rfl) rfl
theorem q1599 : (Jvm.Cond.soleField "TrellistagModel" "many") ∈ lw_all := lw_g (lw_at lw_m7 124 rfl) rfl
theorem q1600 : (Jvm.Cond.laysFinal "TrellistagModel" "TrellistagModel" "counts" "[Z") ∈ lw_all := lw_g (lw_at lw_m7 125 rfl) rfl
theorem q1601 : (Jvm.Cond.soleField "TrellistagModel" "counts") ∈ lw_all := lw_g (lw_at lw_m7 126 rfl) rfl
theorem q1602 : (Jvm.Cond.lays "TrellistagModel" "TrellistagModel" "texts" "I") ∈ lw_all := lw_g (lw_at lw_m7 127 rfl) rfl
theorem q1603 : (Jvm.Cond.soleField "TrellistagModel" "texts") ∈ lw_all := lw_g (lw_at lw_m7 128 rfl) rfl
theorem q1604 : (Jvm.Cond.laysFinal "TrellistagModel" "TrellistagModel" "sentence" "[I") ∈ lw_all := lw_g (lw_at lw_m7 129 rfl) rfl
theorem q1605 : (Jvm.Cond.soleField "TrellistagModel" "sentence") ∈ lw_all := lw_g (lw_at lw_m7 130 rfl) rfl
theorem q1606 : (Jvm.Cond.laysFinal "TrellistagModel" "TrellistagModel" "locked" "[I") ∈ lw_all := lw_g (lw_at lw_m7 131 rfl) rfl
theorem q1607 : (Jvm.Cond.soleField "TrellistagModel" "locked") ∈ lw_all := lw_g (lw_at lw_m7 132 rfl) rfl
theorem q1608 : (Jvm.Cond.lays "TrellistagModel" "TrellistagModel" "places" "I") ∈ lw_all := lw_g (lw_at lw_m7 133 rfl) rfl
theorem q1609 : (Jvm.Cond.soleField "TrellistagModel" "places") ∈ lw_all := lw_g (lw_at lw_m7 134 rfl) rfl
theorem q1610 : (Jvm.Cond.laysFinal "TrellistagModel" "TrellistagModel" "ofWord" "[J") ∈ lw_all := lw_g (lw_at lw_m7 135 rfl) rfl
theorem q1611 : (Jvm.Cond.soleField "TrellistagModel" "ofWord") ∈ lw_all := lw_g (lw_at lw_m7 136 rfl) rfl
theorem q1612 : (Jvm.Cond.laysFinal "TrellistagModel" "TrellistagModel" "ofStep" "[J") ∈ lw_all := lw_g (lw_at lw_m7 137 rfl) rfl
theorem q1613 : (Jvm.Cond.soleField "TrellistagModel" "ofStep") ∈ lw_all := lw_g (lw_at lw_m7 138 rfl) rfl
theorem q1614 : (Jvm.Cond.laysFinal "TrellistagModel" "TrellistagModel" "ofFirst" "[J") ∈ lw_all := lw_g (lw_at lw_m7 139 rfl) rfl
theorem q1615 : (Jvm.Cond.soleField "TrellistagModel" "ofFirst") ∈ lw_all := lw_g (lw_at lw_m7 140 rfl) rfl
theorem q1616 : (Jvm.Cond.laysFinal "TrellistagModel" "TrellistagModel" "best" "[J") ∈ lw_all := lw_g (lw_at lw_m7 141 rfl) rfl
theorem q1617 : (Jvm.Cond.soleField "TrellistagModel" "best") ∈ lw_all := lw_g (lw_at lw_m7 142 rfl) rfl
theorem q1618 : (Jvm.Cond.laysFinal "TrellistagModel" "TrellistagModel" "bestPath" "[I") ∈ lw_all := lw_g (lw_at lw_m7 143 rfl) rfl
theorem q1619 : (Jvm.Cond.soleField "TrellistagModel" "bestPath") ∈ lw_all := lw_g (lw_at lw_m7 144 rfl) rfl
theorem q1620 : (Jvm.Cond.lays "TrellistagModel" "TrellistagModel" "found" "I") ∈ lw_all := lw_g (lw_at lw_m7 145 rfl) rfl
theorem q1621 : (Jvm.Cond.soleField "TrellistagModel" "found") ∈ lw_all := lw_g (lw_at lw_m7 146 rfl) rfl
theorem q1622 : (Jvm.Cond.lays "TrellistagModel" "TrellistagModel" "sum" "J") ∈ lw_all := lw_g (lw_at lw_m7 147 rfl) rfl
theorem q1623 : (Jvm.Cond.soleField "TrellistagModel" "sum") ∈ lw_all := lw_g (lw_at lw_m7 148 rfl) rfl
theorem q1624 : (Jvm.Cond.lays "TrellistagModel" "TrellistagModel" "part" "J") ∈ lw_all := lw_g (lw_at lw_m7 149 rfl) rfl
theorem q1625 : (Jvm.Cond.soleField "TrellistagModel" "part") ∈ lw_all := lw_g (lw_at lw_m7 150 rfl) rfl
theorem q1626 : (Jvm.Cond.superclass "TrellistagModel" "java/lang/Object") ∈ lw_all := lw_g (lw_at lw_m7 151 rfl) rfl
theorem q1629 : (Jvm.Cond.instanceMethod ({ cls := "TrellistagModel", name := "thrown", desc := "()I" } : Jvm.MethodName)) ∈ lw_all := lw_g (lw_at lw_m7 154 rfl) rfl
theorem q1630 : (Jvm.Cond.selects "TrellistagModel" ({ cls := "TrellistagModel", name := "thrown", desc := "()I" } : Jvm.MethodName) ({ cls := "TrellistagModel", name := "thrown", desc := "()I" } : Jvm.MethodName)) ∈ lw_all := lw_g (lw_at lw_m7 155 rfl) rfl
theorem q1631 : (Jvm.Cond.code ({ cls := "TrellistagModel", name := "thrown", desc := "()I" } : Jvm.MethodName) prog_13_method_2_code (1 : Nat) (Option.some Jvm.ClassFile.FieldType.int)) ∈ lw_all := lw_g (lw_at lw_m7 156 rfl) rfl
theorem q1633 : (Jvm.Cond.instanceMethod ({ cls := "TrellistagModel", name := "letter", desc := "(C)I" } : Jvm.MethodName)) ∈ lw_all := lw_g (lw_at lw_m7 158 rfl) rfl
theorem q1634 : (Jvm.Cond.selects "TrellistagModel" ({ cls := "TrellistagModel", name := "letter", desc := "(C)I" } : Jvm.MethodName) ({ cls := "TrellistagModel", name := "letter", desc := "(C)I" } : Jvm.MethodName)) ∈ lw_all := lw_g (lw_at lw_m7 159 rfl) rfl
theorem q1635 : (Jvm.Cond.code ({ cls := "TrellistagModel", name := "letter", desc := "(C)I" } : Jvm.MethodName) prog_13_method_7_code (2 : Nat) (Option.some Jvm.ClassFile.FieldType.int)) ∈ lw_all := lw_g (lw_at lw_m7 160 rfl) rfl
theorem q1636 : (Jvm.Cond.methodLink "TrellistagModel" (58 : Nat) ({ cls := "TrellistagModel", name := "isIn", desc := "(III)Z" } : Jvm.MethodName)) ∈ lw_all := lw_g (lw_at lw_m7 161 rfl) rfl
theorem q1637 : (Jvm.Cond.static ({ cls := "TrellistagModel", name := "isIn", desc := "(III)Z" } : Jvm.MethodName)) ∈ lw_all := lw_g (lw_at lw_m7 162 rfl) rfl
theorem q1638 : (Jvm.Cond.code ({ cls := "TrellistagModel", name := "isIn", desc := "(III)Z" } : Jvm.MethodName) prog_13_method_4_code (3 : Nat) (Option.some Jvm.ClassFile.FieldType.boolean)) ∈ lw_all := lw_g (lw_at lw_m7 163 rfl) rfl
theorem q1639 : (Jvm.Cond.methodLink "TrellistagModel" (68 : Nat) ({ cls := "TrellistagModel", name := "holds", desc := "(I)Z" } : Jvm.MethodName)) ∈ lw_all := lw_g (lw_at lw_m7 164 rfl) rfl
theorem q1640 : (Jvm.Cond.privateMethod ({ cls := "TrellistagModel", name := "holds", desc := "(I)Z" } : Jvm.MethodName)) ∈ lw_tbl := lw_at lw_m7 165 rfl
theorem q1641 : (Jvm.Cond.instanceMethod ({ cls := "TrellistagModel", name := "holds", desc := "(I)Z" } : Jvm.MethodName)) ∈ lw_all := lw_g (lw_at lw_m7 166 rfl) rfl
theorem q1642 : (Jvm.Cond.code ({ cls := "TrellistagModel", name := "holds", desc := "(I)Z" } : Jvm.MethodName) prog_13_method_3_code (2 : Nat) (Option.some Jvm.ClassFile.FieldType.boolean)) ∈ lw_all := lw_g (lw_at lw_m7 167 rfl) rfl
theorem q1644 : (Jvm.Cond.instanceMethod ({ cls := "TrellistagModel", name := "tag", desc := "(I)I" } : Jvm.MethodName)) ∈ lw_all := lw_g (lw_at lw_m7 169 rfl) rfl
theorem q1645 : (Jvm.Cond.selects "TrellistagModel" ({ cls := "TrellistagModel", name := "tag", desc := "(I)I" } : Jvm.MethodName) ({ cls := "TrellistagModel", name := "tag", desc := "(I)I" } : Jvm.MethodName)) ∈ lw_all := lw_g (lw_at lw_m7 170 rfl) rfl
theorem q1646 : (Jvm.Cond.code ({ cls := "TrellistagModel", name := "tag", desc := "(I)I" } : Jvm.MethodName) prog_13_method_9_code (2 : Nat) (Option.some Jvm.ClassFile.FieldType.int)) ∈ lw_all := lw_g (lw_at lw_m7 171 rfl) rfl
theorem q1647 : (Jvm.Cond.methodLink "TrellistagModel" (72 : Nat) ({ cls := "TrellistagModel", name := "isTag", desc := "(I)Z" } : Jvm.MethodName)) ∈ lw_all := lw_g (lw_at lw_m7 172 rfl) rfl
theorem q1648 : (Jvm.Cond.static ({ cls := "TrellistagModel", name := "isTag", desc := "(I)Z" } : Jvm.MethodName)) ∈ lw_all := lw_g (lw_at lw_m7 173 rfl) rfl
theorem q1649 : (Jvm.Cond.code ({ cls := "TrellistagModel", name := "isTag", desc := "(I)Z" } : Jvm.MethodName) prog_13_method_5_code (1 : Nat) (Option.some Jvm.ClassFile.FieldType.boolean)) ∈ lw_all := lw_g (lw_at lw_m7 174 rfl) rfl
theorem q1650 : (Jvm.Cond.methodLink "TrellistagModel" (78 : Nat) ({ cls := "TrellistagModel", name := "takes", desc := "()I" } : Jvm.MethodName)) ∈ lw_all := lw_g (lw_at lw_m7 175 rfl) rfl
theorem q1651 : (Jvm.Cond.privateMethod ({ cls := "TrellistagModel", name := "takes", desc := "()I" } : Jvm.MethodName)) ∈ lw_tbl := lw_at lw_m7 176 rfl
theorem q1652 : (Jvm.Cond.instanceMethod ({ cls := "TrellistagModel", name := "takes", desc := "()I" } : Jvm.MethodName)) ∈ lw_all := lw_g (lw_at lw_m7 177 rfl) rfl
theorem q1653 : (Jvm.Cond.code ({ cls := "TrellistagModel", name := "takes", desc := "()I" } : Jvm.MethodName) prog_13_method_8_code (2 : Nat) (Option.some Jvm.ClassFile.FieldType.int)) ∈ lw_all := lw_g (lw_at lw_m7 178 rfl) rfl
theorem q1655 : (Jvm.Cond.instanceMethod ({ cls := "TrellistagModel", name := "add", desc := "()I" } : Jvm.MethodName)) ∈ lw_all := lw_g (lw_at lw_m7 180 rfl) rfl
theorem q1656 : (Jvm.Cond.selects "TrellistagModel" ({ cls := "TrellistagModel", name := "add", desc := "()I" } : Jvm.MethodName) ({ cls := "TrellistagModel", name := "add", desc := "()I" } : Jvm.MethodName)) ∈ lw_all := lw_g (lw_at lw_m7 181 rfl) rfl
theorem q1657 : (Jvm.Cond.code ({ cls := "TrellistagModel", name := "add", desc := "()I" } : Jvm.MethodName) prog_13_method_10_code (2 : Nat) (Option.some Jvm.ClassFile.FieldType.int)) ∈ lw_all := lw_g (lw_at lw_m7 182 rfl) rfl
theorem q1659 : (Jvm.Cond.instanceMethod ({ cls := "TrellistagModel", name := "text", desc := "(IZ)Z" } : Jvm.MethodName)) ∈ lw_all := lw_g (lw_at lw_m7 184 rfl) rfl
theorem q1660 : (Jvm.Cond.selects "TrellistagModel" ({ cls := "TrellistagModel", name := "text", desc := "(IZ)Z" } : Jvm.MethodName) ({ cls := "TrellistagModel", name := "text", desc := "(IZ)Z" } : Jvm.MethodName)) ∈ lw_all := lw_g (lw_at lw_m7 185 rfl) rfl
theorem q1661 : (Jvm.Cond.code ({ cls := "TrellistagModel", name := "text", desc := "(IZ)Z" } : Jvm.MethodName) prog_13_method_11_code (4 : Nat) (Option.some Jvm.ClassFile.FieldType.boolean)) ∈ lw_all := lw_g (lw_at lw_m7 186 rfl) rfl
theorem q1663 : (Jvm.Cond.instanceMethod ({ cls := "TrellistagModel", name := "word", desc := "()I" } : Jvm.MethodName)) ∈ lw_all := lw_g (lw_at lw_m7 188 rfl) rfl
theorem q1664 : (Jvm.Cond.selects "TrellistagModel" ({ cls := "TrellistagModel", name := "word", desc := "()I" } : Jvm.MethodName) ({ cls := "TrellistagModel", name := "word", desc := "()I" } : Jvm.MethodName)) ∈ lw_all := lw_g (lw_at lw_m7 189 rfl) rfl
theorem q1665 : (Jvm.Cond.code ({ cls := "TrellistagModel", name := "word", desc := "()I" } : Jvm.MethodName) prog_13_method_12_code (1 : Nat) (Option.some Jvm.ClassFile.FieldType.int)) ∈ lw_all := lw_g (lw_at lw_m7 190 rfl) rfl
theorem q1667 : (Jvm.Cond.instanceMethod ({ cls := "TrellistagModel", name := "clear", desc := "()I" } : Jvm.MethodName)) ∈ lw_all := lw_g (lw_at lw_m7 192 rfl) rfl
theorem q1668 : (Jvm.Cond.selects "TrellistagModel" ({ cls := "TrellistagModel", name := "clear", desc := "()I" } : Jvm.MethodName) ({ cls := "TrellistagModel", name := "clear", desc := "()I" } : Jvm.MethodName)) ∈ lw_all := lw_g (lw_at lw_m7 193 rfl) rfl
theorem q1669 : (Jvm.Cond.code ({ cls := "TrellistagModel", name := "clear", desc := "()I" } : Jvm.MethodName) prog_13_method_13_code (2 : Nat) (Option.some Jvm.ClassFile.FieldType.int)) ∈ lw_all := lw_g (lw_at lw_m7 194 rfl) rfl
theorem q1671 : (Jvm.Cond.instanceMethod ({ cls := "TrellistagModel", name := "lock", desc := "(II)I" } : Jvm.MethodName)) ∈ lw_all := lw_g (lw_at lw_m7 196 rfl) rfl
theorem q1672 : (Jvm.Cond.selects "TrellistagModel" ({ cls := "TrellistagModel", name := "lock", desc := "(II)I" } : Jvm.MethodName) ({ cls := "TrellistagModel", name := "lock", desc := "(II)I" } : Jvm.MethodName)) ∈ lw_all := lw_g (lw_at lw_m7 197 rfl) rfl
theorem q1673 : (Jvm.Cond.code ({ cls := "TrellistagModel", name := "lock", desc := "(II)I" } : Jvm.MethodName) prog_13_method_14_code (4 : Nat) (Option.some Jvm.ClassFile.FieldType.int)) ∈ lw_all := lw_g (lw_at lw_m7 198 rfl) rfl
theorem q1674 : (Jvm.Cond.methodLink "TrellistagModel" (85 : Nat) ({ cls := "TrellistagModel", name := "isPlace", desc := "(I)Z" } : Jvm.MethodName)) ∈ lw_all := lw_g (lw_at lw_m7 199 rfl) rfl
theorem q1675 : (Jvm.Cond.privateMethod ({ cls := "TrellistagModel", name := "isPlace", desc := "(I)Z" } : Jvm.MethodName)) ∈ lw_tbl := lw_at lw_m7 200 rfl
theorem q1676 : (Jvm.Cond.instanceMethod ({ cls := "TrellistagModel", name := "isPlace", desc := "(I)Z" } : Jvm.MethodName)) ∈ lw_all := lw_g (lw_at lw_m7 201 rfl) rfl
theorem q1677 : (Jvm.Cond.code ({ cls := "TrellistagModel", name := "isPlace", desc := "(I)Z" } : Jvm.MethodName) prog_13_method_6_code (2 : Nat) (Option.some Jvm.ClassFile.FieldType.boolean)) ∈ lw_all := lw_g (lw_at lw_m7 202 rfl) rfl
theorem q1679 : (Jvm.Cond.instanceMethod ({ cls := "TrellistagModel", name := "weight", desc := "(I)I" } : Jvm.MethodName)) ∈ lw_all := lw_g (lw_at lw_m7 204 rfl) rfl
theorem q1680 : (Jvm.Cond.selects "TrellistagModel" ({ cls := "TrellistagModel", name := "weight", desc := "(I)I" } : Jvm.MethodName) ({ cls := "TrellistagModel", name := "weight", desc := "(I)I" } : Jvm.MethodName)) ∈ lw_all := lw_g (lw_at lw_m7 205 rfl) rfl
theorem q1681 : (Jvm.Cond.code ({ cls := "TrellistagModel", name := "weight", desc := "(I)I" } : Jvm.MethodName) prog_13_method_24_code (2 : Nat) (Option.some Jvm.ClassFile.FieldType.int)) ∈ lw_all := lw_g (lw_at lw_m7 206 rfl) rfl
theorem q1682 : (Jvm.Cond.methodLink "TrellistagModel" (99 : Nat) ({ cls := "TrellistagModel", name := "weightFor", desc := "(II)I" } : Jvm.MethodName)) ∈ lw_all := lw_g (lw_at lw_m7 207 rfl) rfl
theorem q1683 : (Jvm.Cond.privateMethod ({ cls := "TrellistagModel", name := "weightFor", desc := "(II)I" } : Jvm.MethodName)) ∈ lw_tbl := lw_at lw_m7 208 rfl
theorem q1684 : (Jvm.Cond.instanceMethod ({ cls := "TrellistagModel", name := "weightFor", desc := "(II)I" } : Jvm.MethodName)) ∈ lw_all := lw_g (lw_at lw_m7 209 rfl) rfl
theorem q1685 : (Jvm.Cond.code ({ cls := "TrellistagModel", name := "weightFor", desc := "(II)I" } : Jvm.MethodName) prog_13_method_17_code (5 : Nat) (Option.some Jvm.ClassFile.FieldType.int)) ∈ lw_all := lw_g (lw_at lw_m7 210 rfl) rfl
theorem q1686 : (Jvm.Cond.constant "TrellistagModel" (88 : Nat) (387420489 : Int32)) ∈ lw_all := lw_g (lw_at lw_m7 211 rfl) rfl
theorem q1687 : (Jvm.Cond.methodLink "TrellistagModel" (89 : Nat) ({ cls := "TrellistagModel", name := "often", desc := "(III)I" } : Jvm.MethodName)) ∈ lw_all := lw_g (lw_at lw_m7 212 rfl) rfl
theorem q1688 : (Jvm.Cond.privateMethod ({ cls := "TrellistagModel", name := "often", desc := "(III)I" } : Jvm.MethodName)) ∈ lw_tbl := lw_at lw_m7 213 rfl
theorem q1689 : (Jvm.Cond.instanceMethod ({ cls := "TrellistagModel", name := "often", desc := "(III)I" } : Jvm.MethodName)) ∈ lw_all := lw_g (lw_at lw_m7 214 rfl) rfl
theorem q1690 : (Jvm.Cond.code ({ cls := "TrellistagModel", name := "often", desc := "(III)I" } : Jvm.MethodName) prog_13_method_15_code (7 : Nat) (Option.some Jvm.ClassFile.FieldType.int)) ∈ lw_all := lw_g (lw_at lw_m7 215 rfl) rfl
theorem q1691 : (Jvm.Cond.methodLink "TrellistagModel" (93 : Nat) ({ cls := "TrellistagModel", name := "atMost", desc := "(II)I" } : Jvm.MethodName)) ∈ lw_all := lw_g (lw_at lw_m7 216 rfl) rfl
theorem q1692 : (Jvm.Cond.static ({ cls := "TrellistagModel", name := "atMost", desc := "(II)I" } : Jvm.MethodName)) ∈ lw_all := lw_g (lw_at lw_m7 217 rfl) rfl
theorem q1693 : (Jvm.Cond.code ({ cls := "TrellistagModel", name := "atMost", desc := "(II)I" } : Jvm.MethodName) prog_13_method_16_code (2 : Nat) (Option.some Jvm.ClassFile.FieldType.int)) ∈ lw_all := lw_g (lw_at lw_m7 218 rfl) rfl
theorem q1694 : (Jvm.Cond.constantLong "TrellistagModel" (97 : Nat) (27 : Int64)) ∈ lw_all := lw_g (lw_at lw_m7 219 rfl) rfl
theorem q1696 : (Jvm.Cond.instanceMethod ({ cls := "TrellistagModel", name := "step", desc := "(II)I" } : Jvm.MethodName)) ∈ lw_all := lw_g (lw_at lw_m7 221 rfl) rfl
theorem q1697 : (Jvm.Cond.selects "TrellistagModel" ({ cls := "TrellistagModel", name := "step", desc := "(II)I" } : Jvm.MethodName) ({ cls := "TrellistagModel", name := "step", desc := "(II)I" } : Jvm.MethodName)) ∈ lw_all := lw_g (lw_at lw_m7 222 rfl) rfl
theorem q1698 : (Jvm.Cond.code ({ cls := "TrellistagModel", name := "step", desc := "(II)I" } : Jvm.MethodName) prog_13_method_25_code (3 : Nat) (Option.some Jvm.ClassFile.FieldType.int)) ∈ lw_all := lw_g (lw_at lw_m7 223 rfl) rfl
theorem q1699 : (Jvm.Cond.methodLink "TrellistagModel" (102 : Nat) ({ cls := "TrellistagModel", name := "weightOf", desc := "(II)I" } : Jvm.MethodName)) ∈ lw_all := lw_g (lw_at lw_m7 224 rfl) rfl
theorem q1700 : (Jvm.Cond.privateMethod ({ cls := "TrellistagModel", name := "weightOf", desc := "(II)I" } : Jvm.MethodName)) ∈ lw_tbl := lw_at lw_m7 225 rfl
theorem q1701 : (Jvm.Cond.instanceMethod ({ cls := "TrellistagModel", name := "weightOf", desc := "(II)I" } : Jvm.MethodName)) ∈ lw_all := lw_g (lw_at lw_m7 226 rfl) rfl
theorem q1702 : (Jvm.Cond.code ({ cls := "TrellistagModel", name := "weightOf", desc := "(II)I" } : Jvm.MethodName) prog_13_method_18_code (7 : Nat) (Option.some Jvm.ClassFile.FieldType.int)) ∈ lw_all := lw_g (lw_at lw_m7 227 rfl) rfl
theorem q1704 : (Jvm.Cond.instanceMethod ({ cls := "TrellistagModel", name := "path", desc := "(II)I" } : Jvm.MethodName)) ∈ lw_all := lw_g (lw_at lw_m7 229 rfl) rfl
theorem q1705 : (Jvm.Cond.selects "TrellistagModel" ({ cls := "TrellistagModel", name := "path", desc := "(II)I" } : Jvm.MethodName) ({ cls := "TrellistagModel", name := "path", desc := "(II)I" } : Jvm.MethodName)) ∈ lw_all := lw_g (lw_at lw_m7 230 rfl) rfl
theorem q1706 : (Jvm.Cond.code ({ cls := "TrellistagModel", name := "path", desc := "(II)I" } : Jvm.MethodName) prog_13_method_28_code (3 : Nat) (Option.some Jvm.ClassFile.FieldType.int)) ∈ lw_all := lw_g (lw_at lw_m7 231 rfl) rfl
theorem q1707 : (Jvm.Cond.methodLink "TrellistagModel" (135 : Nat) ({ cls := "TrellistagModel", name := "onPath", desc := "(II)I" } : Jvm.MethodName)) ∈ lw_all := lw_g (lw_at lw_m7 232 rfl) rfl
theorem q1708 : (Jvm.Cond.privateMethod ({ cls := "TrellistagModel", name := "onPath", desc := "(II)I" } : Jvm.MethodName)) ∈ lw_tbl := lw_at lw_m7 233 rfl
theorem q1709 : (Jvm.Cond.instanceMethod ({ cls := "TrellistagModel", name := "onPath", desc := "(II)I" } : Jvm.MethodName)) ∈ lw_all := lw_g (lw_at lw_m7 234 rfl) rfl
theorem q1710 : (Jvm.Cond.code ({ cls := "TrellistagModel", name := "onPath", desc := "(II)I" } : Jvm.MethodName) prog_13_method_27_code (3 : Nat) (Option.some Jvm.ClassFile.FieldType.int)) ∈ lw_all := lw_g (lw_at lw_m7 235 rfl) rfl
theorem q1711 : (Jvm.Cond.methodLink "TrellistagModel" (128 : Nat) ({ cls := "TrellistagModel", name := "isRank", desc := "(I)Z" } : Jvm.MethodName)) ∈ lw_all := lw_g (lw_at lw_m7 236 rfl) rfl
theorem q1712 : (Jvm.Cond.static ({ cls := "TrellistagModel", name := "isRank", desc := "(I)Z" } : Jvm.MethodName)) ∈ lw_all := lw_g (lw_at lw_m7 237 rfl) rfl
theorem q1713 : (Jvm.Cond.code ({ cls := "TrellistagModel", name := "isRank", desc := "(I)Z" } : Jvm.MethodName) prog_13_method_26_code (1 : Nat) (Option.some Jvm.ClassFile.FieldType.boolean)) ∈ lw_all := lw_g (lw_at lw_m7 238 rfl) rfl
theorem q1714 : (Jvm.Cond.methodLink "TrellistagModel" (131 : Nat) ({ cls := "TrellistagModel", name := "goes", desc := "(II)V" } : Jvm.MethodName)) ∈ lw_all := lw_g (lw_at lw_m7 239 rfl) rfl
theorem q1715 : (Jvm.Cond.privateMethod ({ cls := "TrellistagModel", name := "goes", desc := "(II)V" } : Jvm.MethodName)) ∈ lw_tbl := lw_at lw_m8 0 rfl
theorem q1716 : (Jvm.Cond.instanceMethod ({ cls := "TrellistagModel", name := "goes", desc := "(II)V" } : Jvm.MethodName)) ∈ lw_all := lw_g (lw_at lw_m8 1 rfl) rfl
theorem q1717 : (Jvm.Cond.code ({ cls := "TrellistagModel", name := "goes", desc := "(II)V" } : Jvm.MethodName) prog_13_method_23_code (8 : Nat) (Option.none : Option Jvm.ClassFile.FieldType)) ∈ lw_all := lw_g (lw_at lw_m8 2 rfl) rfl
theorem q1718 : (Jvm.Cond.methodLink "TrellistagModel" (108 : Nat) ({ cls := "TrellistagModel", name := "lays", desc := "()V" } : Jvm.MethodName)) ∈ lw_all := lw_g (lw_at lw_m8 3 rfl) rfl
theorem q1719 : (Jvm.Cond.privateMethod ({ cls := "TrellistagModel", name := "lays", desc := "()V" } : Jvm.MethodName)) ∈ lw_tbl := lw_at lw_m8 4 rfl
theorem q1720 : (Jvm.Cond.instanceMethod ({ cls := "TrellistagModel", name := "lays", desc := "()V" } : Jvm.MethodName)) ∈ lw_all := lw_g (lw_at lw_m8 5 rfl) rfl
theorem q1721 : (Jvm.Cond.code ({ cls := "TrellistagModel", name := "lays", desc := "()V" } : Jvm.MethodName) prog_13_method_19_code (2 : Nat) (Option.none : Option Jvm.ClassFile.FieldType)) ∈ lw_all := lw_g (lw_at lw_m8 6 rfl) rfl
theorem q1722 : (Jvm.Cond.methodLink "TrellistagModel" (121 : Nat) ({ cls := "TrellistagModel", name := "paths", desc := "()I" } : Jvm.MethodName)) ∈ lw_all := lw_g (lw_at lw_m8 7 rfl) rfl
theorem q1723 : (Jvm.Cond.privateMethod ({ cls := "TrellistagModel", name := "paths", desc := "()I" } : Jvm.MethodName)) ∈ lw_tbl := lw_at lw_m8 8 rfl
theorem q1724 : (Jvm.Cond.instanceMethod ({ cls := "TrellistagModel", name := "paths", desc := "()I" } : Jvm.MethodName)) ∈ lw_all := lw_g (lw_at lw_m8 9 rfl) rfl
theorem q1725 : (Jvm.Cond.code ({ cls := "TrellistagModel", name := "paths", desc := "()I" } : Jvm.MethodName) prog_13_method_20_code (3 : Nat) (Option.some Jvm.ClassFile.FieldType.int)) ∈ lw_all := lw_g (lw_at lw_m8 10 rfl) rfl
theorem q1726 : (Jvm.Cond.methodLink "TrellistagModel" (124 : Nat) ({ cls := "TrellistagModel", name := "weightOfPath", desc := "(I)J" } : Jvm.MethodName)) ∈ lw_all := lw_g (lw_at lw_m8 11 rfl) rfl
theorem q1727 : (Jvm.Cond.privateMethod ({ cls := "TrellistagModel", name := "weightOfPath", desc := "(I)J" } : Jvm.MethodName)) ∈ lw_tbl := lw_at lw_m8 12 rfl
theorem q1728 : (Jvm.Cond.instanceMethod ({ cls := "TrellistagModel", name := "weightOfPath", desc := "(I)J" } : Jvm.MethodName)) ∈ lw_all := lw_g (lw_at lw_m8 13 rfl) rfl
theorem q1729 : (Jvm.Cond.code ({ cls := "TrellistagModel", name := "weightOfPath", desc := "(I)J" } : Jvm.MethodName) prog_13_method_22_code (6 : Nat) (Option.some Jvm.ClassFile.FieldType.long)) ∈ lw_all := lw_g (lw_at lw_m8 14 rfl) rfl
theorem q1730 : (Jvm.Cond.methodLink "TrellistagModel" (105 : Nat) ({ cls := "TrellistagModel", name := "tagAt", desc := "(II)I" } : Jvm.MethodName)) ∈ lw_all := lw_g (lw_at lw_m8 15 rfl) rfl
theorem q1731 : (Jvm.Cond.privateMethod ({ cls := "TrellistagModel", name := "tagAt", desc := "(II)I" } : Jvm.MethodName)) ∈ lw_tbl := lw_at lw_m8 16 rfl
theorem q1732 : (Jvm.Cond.instanceMethod ({ cls := "TrellistagModel", name := "tagAt", desc := "(II)I" } : Jvm.MethodName)) ∈ lw_all := lw_g (lw_at lw_m8 17 rfl) rfl
theorem q1733 : (Jvm.Cond.code ({ cls := "TrellistagModel", name := "tagAt", desc := "(II)I" } : Jvm.MethodName) prog_13_method_21_code (5 : Nat) (Option.some Jvm.ClassFile.FieldType.int)) ∈ lw_all := lw_g (lw_at lw_m8 18 rfl) rfl
theorem q1735 : (Jvm.Cond.instanceMethod ({ cls := "TrellistagModel", name := "pathAnew", desc := "(II)I" } : Jvm.MethodName)) ∈ lw_all := lw_g (lw_at lw_m8 20 rfl) rfl
theorem q1736 : (Jvm.Cond.selects "TrellistagModel" ({ cls := "TrellistagModel", name := "pathAnew", desc := "(II)I" } : Jvm.MethodName) ({ cls := "TrellistagModel", name := "pathAnew", desc := "(II)I" } : Jvm.MethodName)) ∈ lw_all := lw_g (lw_at lw_m8 21 rfl) rfl
theorem q1737 : (Jvm.Cond.code ({ cls := "TrellistagModel", name := "pathAnew", desc := "(II)I" } : Jvm.MethodName) prog_13_method_29_code (3 : Nat) (Option.some Jvm.ClassFile.FieldType.int)) ∈ lw_all := lw_g (lw_at lw_m8 22 rfl) rfl
theorem q1739 : (Jvm.Cond.instanceMethod ({ cls := "TrellistagModel", name := "product", desc := "(I)J" } : Jvm.MethodName)) ∈ lw_all := lw_g (lw_at lw_m8 24 rfl) rfl
theorem q1740 : (Jvm.Cond.selects "TrellistagModel" ({ cls := "TrellistagModel", name := "product", desc := "(I)J" } : Jvm.MethodName) ({ cls := "TrellistagModel", name := "product", desc := "(I)J" } : Jvm.MethodName)) ∈ lw_all := lw_g (lw_at lw_m8 25 rfl) rfl
theorem q1741 : (Jvm.Cond.code ({ cls := "TrellistagModel", name := "product", desc := "(I)J" } : Jvm.MethodName) prog_13_method_31_code (2 : Nat) (Option.some Jvm.ClassFile.FieldType.long)) ∈ lw_all := lw_g (lw_at lw_m8 26 rfl) rfl
theorem q1742 : (Jvm.Cond.methodLink "TrellistagModel" (138 : Nat) ({ cls := "TrellistagModel", name := "weightOfRank", desc := "(I)J" } : Jvm.MethodName)) ∈ lw_all := lw_g (lw_at lw_m8 27 rfl) rfl
theorem q1743 : (Jvm.Cond.privateMethod ({ cls := "TrellistagModel", name := "weightOfRank", desc := "(I)J" } : Jvm.MethodName)) ∈ lw_tbl := lw_at lw_m8 28 rfl
theorem q1744 : (Jvm.Cond.instanceMethod ({ cls := "TrellistagModel", name := "weightOfRank", desc := "(I)J" } : Jvm.MethodName)) ∈ lw_all := lw_g (lw_at lw_m8 29 rfl) rfl
theorem q1745 : (Jvm.Cond.code ({ cls := "TrellistagModel", name := "weightOfRank", desc := "(I)J" } : Jvm.MethodName) prog_13_method_30_code (2 : Nat) (Option.some Jvm.ClassFile.FieldType.long)) ∈ lw_all := lw_g (lw_at lw_m8 30 rfl) rfl
theorem q1747 : (Jvm.Cond.instanceMethod ({ cls := "TrellistagModel", name := "cost", desc := "()I" } : Jvm.MethodName)) ∈ lw_all := lw_g (lw_at lw_m8 32 rfl) rfl
theorem q1748 : (Jvm.Cond.selects "TrellistagModel" ({ cls := "TrellistagModel", name := "cost", desc := "()I" } : Jvm.MethodName) ({ cls := "TrellistagModel", name := "cost", desc := "()I" } : Jvm.MethodName)) ∈ lw_all := lw_g (lw_at lw_m8 33 rfl) rfl
theorem q1749 : (Jvm.Cond.code ({ cls := "TrellistagModel", name := "cost", desc := "()I" } : Jvm.MethodName) prog_13_method_32_code (4 : Nat) (Option.some Jvm.ClassFile.FieldType.int)) ∈ lw_all := lw_g (lw_at lw_m8 34 rfl) rfl
theorem q1750 : (Jvm.Cond.constantLong "TrellistagModel" (141 : Nat) (1152921504606846975 : Int64)) ∈ lw_all := lw_g (lw_at lw_m8 35 rfl) rfl
theorem q1751 : (Jvm.Cond.constantLong "TrellistagModel" (143 : Nat) (2 : Int64)) ∈ lw_all := lw_g (lw_at lw_m8 36 rfl) rfl
theorem q1753 : (Jvm.Cond.instanceMethod ({ cls := "TrellistagModel", name := "share", desc := "(II)I" } : Jvm.MethodName)) ∈ lw_all := lw_g (lw_at lw_m8 38 rfl) rfl
theorem q1754 : (Jvm.Cond.selects "TrellistagModel" ({ cls := "TrellistagModel", name := "share", desc := "(II)I" } : Jvm.MethodName) ({ cls := "TrellistagModel", name := "share", desc := "(II)I" } : Jvm.MethodName)) ∈ lw_all := lw_g (lw_at lw_m8 39 rfl) rfl
theorem q1755 : (Jvm.Cond.code ({ cls := "TrellistagModel", name := "share", desc := "(II)I" } : Jvm.MethodName) prog_13_method_34_code (3 : Nat) (Option.some Jvm.ClassFile.FieldType.int)) ∈ lw_all := lw_g (lw_at lw_m8 40 rfl) rfl
theorem q1756 : (Jvm.Cond.methodLink "TrellistagModel" (147 : Nat) ({ cls := "TrellistagModel", name := "shareOf", desc := "(II)I" } : Jvm.MethodName)) ∈ lw_all := lw_g (lw_at lw_m8 41 rfl) rfl
theorem q1757 : (Jvm.Cond.privateMethod ({ cls := "TrellistagModel", name := "shareOf", desc := "(II)I" } : Jvm.MethodName)) ∈ lw_tbl := lw_at lw_m8 42 rfl
theorem q1758 : (Jvm.Cond.instanceMethod ({ cls := "TrellistagModel", name := "shareOf", desc := "(II)I" } : Jvm.MethodName)) ∈ lw_all := lw_g (lw_at lw_m8 43 rfl) rfl
theorem q1759 : (Jvm.Cond.code ({ cls := "TrellistagModel", name := "shareOf", desc := "(II)I" } : Jvm.MethodName) prog_13_method_33_code (3 : Nat) (Option.some Jvm.ClassFile.FieldType.int)) ∈ lw_all := lw_g (lw_at lw_m8 44 rfl) rfl
theorem q1760 : (Jvm.Cond.constantLong "TrellistagModel" (145 : Nat) (1000 : Int64)) ∈ lw_all := lw_g (lw_at lw_m8 45 rfl) rfl
theorem q1762 : (Jvm.Cond.instanceMethod ({ cls := "TrellistagModel", name := "shareAnew", desc := "(II)I" } : Jvm.MethodName)) ∈ lw_all := lw_g (lw_at lw_m8 47 rfl) rfl
theorem q1763 : (Jvm.Cond.selects "TrellistagModel" ({ cls := "TrellistagModel", name := "shareAnew", desc := "(II)I" } : Jvm.MethodName) ({ cls := "TrellistagModel", name := "shareAnew", desc := "(II)I" } : Jvm.MethodName)) ∈ lw_all := lw_g (lw_at lw_m8 48 rfl) rfl
theorem q1764 : (Jvm.Cond.code ({ cls := "TrellistagModel", name := "shareAnew", desc := "(II)I" } : Jvm.MethodName) prog_13_method_35_code (3 : Nat) (Option.some Jvm.ClassFile.FieldType.int)) ∈ lw_all := lw_g (lw_at lw_m8 49 rfl) rfl
theorem q1766 : (Jvm.Cond.instanceMethod ({ cls := "TrellistagModel", name := "texts", desc := "()I" } : Jvm.MethodName)) ∈ lw_all := lw_g (lw_at lw_m8 51 rfl) rfl
theorem q1767 : (Jvm.Cond.selects "TrellistagModel" ({ cls := "TrellistagModel", name := "texts", desc := "()I" } : Jvm.MethodName) ({ cls := "TrellistagModel", name := "texts", desc := "()I" } : Jvm.MethodName)) ∈ lw_all := lw_g (lw_at lw_m8 52 rfl) rfl
theorem q1768 : (Jvm.Cond.code ({ cls := "TrellistagModel", name := "texts", desc := "()I" } : Jvm.MethodName) prog_13_method_36_code (3 : Nat) (Option.some Jvm.ClassFile.FieldType.int)) ∈ lw_all := lw_g (lw_at lw_m8 53 rfl) rfl
theorem q1789 : (Jvm.Cond.castable "TrellistagModel" "java/lang/Object") ∈ lw_tbl := lw_at lw_m8 74 rfl
theorem in_X6 : ∀ w ∈ wsX60, w ∈ lw_all := lw_in wsX60 [1582, 1584, 1586, 1588, 1590, 1592, 1594, 1596, 1598, 1600, 1602, 1604, 1606, 1608, 1610, 1612, 1614, 1616, 1618, 1620, 1622, 1624] (by decide +kernel) (by decide +kernel)

/-! TrellistagLaw -/
set_option maxRecDepth 100000
def RX0 : String := "TrellistagLaw"
abbrev cX0_letter : ByteArray := method_3_code
def yX0_letter : MethodName := ⟨RX0, "letter", "(LTrellistag;C[J)I"⟩
def dkwX0_letter_0 : List UInt8 := [44, 3, 42, 27, 182, 0, 7, 133, 80, 167, 0, 9, 78, 4, 172, 78, 5, 172, 3, 172]
abbrev dktX0_letter_0 : List UInt8 := dkwX0_letter_0 ++ []
theorem dksX0_letter_0 : cX0_letter.data.toList.drop 0 = dktX0_letter_0 := by decide +kernel
theorem dX0_letter_0 : decode cX0_letter 0 = .ok (.aload_n 2, 1) := dk_44 (dk_at dksX0_letter_0 0 rfl rfl)
theorem dX0_letter_1 : decode cX0_letter 1 = .ok (.iconst 0, 1) := dk_3 (dk_at dksX0_letter_0 1 rfl rfl)
theorem dX0_letter_2 : decode cX0_letter 2 = .ok (.aload_n 0, 1) := dk_42 (dk_at dksX0_letter_0 2 rfl rfl)
theorem dX0_letter_3 : decode cX0_letter 3 = .ok (.iload_n 1, 1) := dk_27 (dk_at dksX0_letter_0 3 rfl rfl)
theorem dX0_letter_4 : decode cX0_letter 4 = .ok (.invokevirtual 7, 3) := dk_182 0 7 (dk_at dksX0_letter_0 4 rfl rfl)
theorem dX0_letter_7 : decode cX0_letter 7 = .ok (.i2l, 1) := dk_133 (dk_at dksX0_letter_0 7 rfl rfl)
theorem dX0_letter_8 : decode cX0_letter 8 = .ok (.lastore, 1) := dk_80 (dk_at dksX0_letter_0 8 rfl rfl)
theorem dX0_letter_9 : decode cX0_letter 9 = .ok (.goto 9, 3) := dk_167 0 9 (dk_at dksX0_letter_0 9 rfl rfl)
theorem dX0_letter_12 : decode cX0_letter 12 = .ok (.astore_n 3, 1) := dk_78 (dk_at dksX0_letter_0 12 rfl rfl)
theorem dX0_letter_13 : decode cX0_letter 13 = .ok (.iconst 1, 1) := dk_4 (dk_at dksX0_letter_0 13 rfl rfl)
theorem dX0_letter_14 : decode cX0_letter 14 = .ok (.ireturn, 1) := dk_172 (dk_at dksX0_letter_0 14 rfl rfl)
theorem dX0_letter_15 : decode cX0_letter 15 = .ok (.astore_n 3, 1) := dk_78 (dk_at dksX0_letter_0 15 rfl rfl)
theorem dX0_letter_16 : decode cX0_letter 16 = .ok (.iconst 2, 1) := dk_5 (dk_at dksX0_letter_0 16 rfl rfl)
theorem dX0_letter_17 : decode cX0_letter 17 = .ok (.ireturn, 1) := dk_172 (dk_at dksX0_letter_0 17 rfl rfl)
theorem dX0_letter_18 : decode cX0_letter 18 = .ok (.iconst 0, 1) := dk_3 (dk_at dksX0_letter_0 18 rfl rfl)
theorem dX0_letter_19 : decode cX0_letter 19 = .ok (.ireturn, 1) := dk_172 (dk_at dksX0_letter_0 19 rfl rfl)
abbrev cX0_tag : ByteArray := method_4_code
def yX0_tag : MethodName := ⟨RX0, "tag", "(LTrellistag;I[J)I"⟩
def dkwX0_tag_0 : List UInt8 := [44, 3, 42, 27, 182, 0, 17, 133, 80, 167, 0, 9, 78, 4, 172, 78, 5, 172, 3, 172]
abbrev dktX0_tag_0 : List UInt8 := dkwX0_tag_0 ++ []
theorem dksX0_tag_0 : cX0_tag.data.toList.drop 0 = dktX0_tag_0 := by decide +kernel
theorem dX0_tag_0 : decode cX0_tag 0 = .ok (.aload_n 2, 1) := dk_44 (dk_at dksX0_tag_0 0 rfl rfl)
theorem dX0_tag_1 : decode cX0_tag 1 = .ok (.iconst 0, 1) := dk_3 (dk_at dksX0_tag_0 1 rfl rfl)
theorem dX0_tag_2 : decode cX0_tag 2 = .ok (.aload_n 0, 1) := dk_42 (dk_at dksX0_tag_0 2 rfl rfl)
theorem dX0_tag_3 : decode cX0_tag 3 = .ok (.iload_n 1, 1) := dk_27 (dk_at dksX0_tag_0 3 rfl rfl)
theorem dX0_tag_4 : decode cX0_tag 4 = .ok (.invokevirtual 17, 3) := dk_182 0 17 (dk_at dksX0_tag_0 4 rfl rfl)
theorem dX0_tag_7 : decode cX0_tag 7 = .ok (.i2l, 1) := dk_133 (dk_at dksX0_tag_0 7 rfl rfl)
theorem dX0_tag_8 : decode cX0_tag 8 = .ok (.lastore, 1) := dk_80 (dk_at dksX0_tag_0 8 rfl rfl)
theorem dX0_tag_9 : decode cX0_tag 9 = .ok (.goto 9, 3) := dk_167 0 9 (dk_at dksX0_tag_0 9 rfl rfl)
theorem dX0_tag_12 : decode cX0_tag 12 = .ok (.astore_n 3, 1) := dk_78 (dk_at dksX0_tag_0 12 rfl rfl)
theorem dX0_tag_13 : decode cX0_tag 13 = .ok (.iconst 1, 1) := dk_4 (dk_at dksX0_tag_0 13 rfl rfl)
theorem dX0_tag_14 : decode cX0_tag 14 = .ok (.ireturn, 1) := dk_172 (dk_at dksX0_tag_0 14 rfl rfl)
theorem dX0_tag_15 : decode cX0_tag 15 = .ok (.astore_n 3, 1) := dk_78 (dk_at dksX0_tag_0 15 rfl rfl)
theorem dX0_tag_16 : decode cX0_tag 16 = .ok (.iconst 2, 1) := dk_5 (dk_at dksX0_tag_0 16 rfl rfl)
theorem dX0_tag_17 : decode cX0_tag 17 = .ok (.ireturn, 1) := dk_172 (dk_at dksX0_tag_0 17 rfl rfl)
theorem dX0_tag_18 : decode cX0_tag 18 = .ok (.iconst 0, 1) := dk_3 (dk_at dksX0_tag_0 18 rfl rfl)
theorem dX0_tag_19 : decode cX0_tag 19 = .ok (.ireturn, 1) := dk_172 (dk_at dksX0_tag_0 19 rfl rfl)
abbrev cX0_add : ByteArray := method_5_code
def yX0_add : MethodName := ⟨RX0, "add", "(LTrellistag;[J)I"⟩
def dkwX0_add_0 : List UInt8 := [43, 3, 42, 182, 0, 23, 133, 80, 167, 0, 6, 77, 4, 172, 3, 172]
abbrev dktX0_add_0 : List UInt8 := dkwX0_add_0 ++ []
theorem dksX0_add_0 : cX0_add.data.toList.drop 0 = dktX0_add_0 := by decide +kernel
theorem dX0_add_0 : decode cX0_add 0 = .ok (.aload_n 1, 1) := dk_43 (dk_at dksX0_add_0 0 rfl rfl)
theorem dX0_add_1 : decode cX0_add 1 = .ok (.iconst 0, 1) := dk_3 (dk_at dksX0_add_0 1 rfl rfl)
theorem dX0_add_2 : decode cX0_add 2 = .ok (.aload_n 0, 1) := dk_42 (dk_at dksX0_add_0 2 rfl rfl)
theorem dX0_add_3 : decode cX0_add 3 = .ok (.invokevirtual 23, 3) := dk_182 0 23 (dk_at dksX0_add_0 3 rfl rfl)
theorem dX0_add_6 : decode cX0_add 6 = .ok (.i2l, 1) := dk_133 (dk_at dksX0_add_0 6 rfl rfl)
theorem dX0_add_7 : decode cX0_add 7 = .ok (.lastore, 1) := dk_80 (dk_at dksX0_add_0 7 rfl rfl)
theorem dX0_add_8 : decode cX0_add 8 = .ok (.goto 6, 3) := dk_167 0 6 (dk_at dksX0_add_0 8 rfl rfl)
theorem dX0_add_11 : decode cX0_add 11 = .ok (.astore_n 2, 1) := dk_77 (dk_at dksX0_add_0 11 rfl rfl)
theorem dX0_add_12 : decode cX0_add 12 = .ok (.iconst 1, 1) := dk_4 (dk_at dksX0_add_0 12 rfl rfl)
theorem dX0_add_13 : decode cX0_add 13 = .ok (.ireturn, 1) := dk_172 (dk_at dksX0_add_0 13 rfl rfl)
theorem dX0_add_14 : decode cX0_add 14 = .ok (.iconst 0, 1) := dk_3 (dk_at dksX0_add_0 14 rfl rfl)
theorem dX0_add_15 : decode cX0_add 15 = .ok (.ireturn, 1) := dk_172 (dk_at dksX0_add_0 15 rfl rfl)
abbrev cX0_text : ByteArray := method_6_code
def yX0_text : MethodName := ⟨RX0, "text", "(LTrellistag;IZ[J)I"⟩
def dkwX0_text_1 : List UInt8 := [3, 172]
abbrev dktX0_text_1 : List UInt8 := dkwX0_text_1 ++ []
def dkwX0_text_0 : List UInt8 := [45, 3, 42, 27, 28, 182, 0, 27, 153, 0, 7, 10, 167, 0, 4, 9, 80, 167, 0, 7, 58, 4, 4, 172]
abbrev dktX0_text_0 : List UInt8 := dkwX0_text_0 ++ dktX0_text_1
theorem dksX0_text_0 : cX0_text.data.toList.drop 0 = dktX0_text_0 := by decide +kernel
theorem dksX0_text_1 : cX0_text.data.toList.drop 24 = dktX0_text_1 := dk_seg dksX0_text_0 24 rfl rfl
theorem dX0_text_0 : decode cX0_text 0 = .ok (.aload_n 3, 1) := dk_45 (dk_at dksX0_text_0 0 rfl rfl)
theorem dX0_text_1 : decode cX0_text 1 = .ok (.iconst 0, 1) := dk_3 (dk_at dksX0_text_0 1 rfl rfl)
theorem dX0_text_2 : decode cX0_text 2 = .ok (.aload_n 0, 1) := dk_42 (dk_at dksX0_text_0 2 rfl rfl)
theorem dX0_text_3 : decode cX0_text 3 = .ok (.iload_n 1, 1) := dk_27 (dk_at dksX0_text_0 3 rfl rfl)
theorem dX0_text_4 : decode cX0_text 4 = .ok (.iload_n 2, 1) := dk_28 (dk_at dksX0_text_0 4 rfl rfl)
theorem dX0_text_5 : decode cX0_text 5 = .ok (.invokevirtual 27, 3) := dk_182 0 27 (dk_at dksX0_text_0 5 rfl rfl)
theorem dX0_text_8 : decode cX0_text 8 = .ok (.ifCond .eq 7, 3) := dk_153 0 7 (dk_at dksX0_text_0 8 rfl rfl)
theorem dX0_text_11 : decode cX0_text 11 = .ok (.lconst 1, 1) := dk_10 (dk_at dksX0_text_0 11 rfl rfl)
theorem dX0_text_12 : decode cX0_text 12 = .ok (.goto 4, 3) := dk_167 0 4 (dk_at dksX0_text_0 12 rfl rfl)
theorem dX0_text_15 : decode cX0_text 15 = .ok (.lconst 0, 1) := dk_9 (dk_at dksX0_text_0 15 rfl rfl)
theorem dX0_text_16 : decode cX0_text 16 = .ok (.lastore, 1) := dk_80 (dk_at dksX0_text_0 16 rfl rfl)
theorem dX0_text_17 : decode cX0_text 17 = .ok (.goto 7, 3) := dk_167 0 7 (dk_at dksX0_text_0 17 rfl rfl)
theorem dX0_text_20 : decode cX0_text 20 = .ok (.astore 4, 2) := dk_58 4 (dk_at dksX0_text_0 20 rfl rfl)
theorem dX0_text_22 : decode cX0_text 22 = .ok (.iconst 1, 1) := dk_4 (dk_at dksX0_text_0 22 rfl rfl)
theorem dX0_text_23 : decode cX0_text 23 = .ok (.ireturn, 1) := dk_172 (dk_at dksX0_text_0 23 rfl rfl)
theorem dX0_text_24 : decode cX0_text 24 = .ok (.iconst 0, 1) := dk_3 (dk_at dksX0_text_1 0 rfl rfl)
theorem dX0_text_25 : decode cX0_text 25 = .ok (.ireturn, 1) := dk_172 (dk_at dksX0_text_1 1 rfl rfl)
abbrev cX0_word : ByteArray := method_7_code
def yX0_word : MethodName := ⟨RX0, "word", "(LTrellistag;[J)I"⟩
def dkwX0_word_0 : List UInt8 := [43, 3, 42, 182, 0, 31, 133, 80, 167, 0, 6, 77, 4, 172, 3, 172]
abbrev dktX0_word_0 : List UInt8 := dkwX0_word_0 ++ []
theorem dksX0_word_0 : cX0_word.data.toList.drop 0 = dktX0_word_0 := by decide +kernel
theorem dX0_word_0 : decode cX0_word 0 = .ok (.aload_n 1, 1) := dk_43 (dk_at dksX0_word_0 0 rfl rfl)
theorem dX0_word_1 : decode cX0_word 1 = .ok (.iconst 0, 1) := dk_3 (dk_at dksX0_word_0 1 rfl rfl)
theorem dX0_word_2 : decode cX0_word 2 = .ok (.aload_n 0, 1) := dk_42 (dk_at dksX0_word_0 2 rfl rfl)
theorem dX0_word_3 : decode cX0_word 3 = .ok (.invokevirtual 31, 3) := dk_182 0 31 (dk_at dksX0_word_0 3 rfl rfl)
theorem dX0_word_6 : decode cX0_word 6 = .ok (.i2l, 1) := dk_133 (dk_at dksX0_word_0 6 rfl rfl)
theorem dX0_word_7 : decode cX0_word 7 = .ok (.lastore, 1) := dk_80 (dk_at dksX0_word_0 7 rfl rfl)
theorem dX0_word_8 : decode cX0_word 8 = .ok (.goto 6, 3) := dk_167 0 6 (dk_at dksX0_word_0 8 rfl rfl)
theorem dX0_word_11 : decode cX0_word 11 = .ok (.astore_n 2, 1) := dk_77 (dk_at dksX0_word_0 11 rfl rfl)
theorem dX0_word_12 : decode cX0_word 12 = .ok (.iconst 1, 1) := dk_4 (dk_at dksX0_word_0 12 rfl rfl)
theorem dX0_word_13 : decode cX0_word 13 = .ok (.ireturn, 1) := dk_172 (dk_at dksX0_word_0 13 rfl rfl)
theorem dX0_word_14 : decode cX0_word 14 = .ok (.iconst 0, 1) := dk_3 (dk_at dksX0_word_0 14 rfl rfl)
theorem dX0_word_15 : decode cX0_word 15 = .ok (.ireturn, 1) := dk_172 (dk_at dksX0_word_0 15 rfl rfl)
abbrev cX0_lock : ByteArray := method_8_code
def yX0_lock : MethodName := ⟨RX0, "lock", "(LTrellistag;II[J)I"⟩
def dkwX0_lock_0 : List UInt8 := [45, 3, 42, 27, 28, 182, 0, 34, 133, 80, 167, 0, 7, 58, 4, 4, 172, 3, 172]
abbrev dktX0_lock_0 : List UInt8 := dkwX0_lock_0 ++ []
theorem dksX0_lock_0 : cX0_lock.data.toList.drop 0 = dktX0_lock_0 := by decide +kernel
theorem dX0_lock_0 : decode cX0_lock 0 = .ok (.aload_n 3, 1) := dk_45 (dk_at dksX0_lock_0 0 rfl rfl)
theorem dX0_lock_1 : decode cX0_lock 1 = .ok (.iconst 0, 1) := dk_3 (dk_at dksX0_lock_0 1 rfl rfl)
theorem dX0_lock_2 : decode cX0_lock 2 = .ok (.aload_n 0, 1) := dk_42 (dk_at dksX0_lock_0 2 rfl rfl)
theorem dX0_lock_3 : decode cX0_lock 3 = .ok (.iload_n 1, 1) := dk_27 (dk_at dksX0_lock_0 3 rfl rfl)
theorem dX0_lock_4 : decode cX0_lock 4 = .ok (.iload_n 2, 1) := dk_28 (dk_at dksX0_lock_0 4 rfl rfl)
theorem dX0_lock_5 : decode cX0_lock 5 = .ok (.invokevirtual 34, 3) := dk_182 0 34 (dk_at dksX0_lock_0 5 rfl rfl)
theorem dX0_lock_8 : decode cX0_lock 8 = .ok (.i2l, 1) := dk_133 (dk_at dksX0_lock_0 8 rfl rfl)
theorem dX0_lock_9 : decode cX0_lock 9 = .ok (.lastore, 1) := dk_80 (dk_at dksX0_lock_0 9 rfl rfl)
theorem dX0_lock_10 : decode cX0_lock 10 = .ok (.goto 7, 3) := dk_167 0 7 (dk_at dksX0_lock_0 10 rfl rfl)
theorem dX0_lock_13 : decode cX0_lock 13 = .ok (.astore 4, 2) := dk_58 4 (dk_at dksX0_lock_0 13 rfl rfl)
theorem dX0_lock_15 : decode cX0_lock 15 = .ok (.iconst 1, 1) := dk_4 (dk_at dksX0_lock_0 15 rfl rfl)
theorem dX0_lock_16 : decode cX0_lock 16 = .ok (.ireturn, 1) := dk_172 (dk_at dksX0_lock_0 16 rfl rfl)
theorem dX0_lock_17 : decode cX0_lock 17 = .ok (.iconst 0, 1) := dk_3 (dk_at dksX0_lock_0 17 rfl rfl)
theorem dX0_lock_18 : decode cX0_lock 18 = .ok (.ireturn, 1) := dk_172 (dk_at dksX0_lock_0 18 rfl rfl)
abbrev cX0_weight : ByteArray := method_9_code
def yX0_weight : MethodName := ⟨RX0, "weight", "(LTrellistag;I[J)I"⟩
def dkwX0_weight_0 : List UInt8 := [44, 3, 42, 27, 182, 0, 38, 133, 80, 167, 0, 9, 78, 4, 172, 78, 5, 172, 3, 172]
abbrev dktX0_weight_0 : List UInt8 := dkwX0_weight_0 ++ []
theorem dksX0_weight_0 : cX0_weight.data.toList.drop 0 = dktX0_weight_0 := by decide +kernel
theorem dX0_weight_0 : decode cX0_weight 0 = .ok (.aload_n 2, 1) := dk_44 (dk_at dksX0_weight_0 0 rfl rfl)
theorem dX0_weight_1 : decode cX0_weight 1 = .ok (.iconst 0, 1) := dk_3 (dk_at dksX0_weight_0 1 rfl rfl)
theorem dX0_weight_2 : decode cX0_weight 2 = .ok (.aload_n 0, 1) := dk_42 (dk_at dksX0_weight_0 2 rfl rfl)
theorem dX0_weight_3 : decode cX0_weight 3 = .ok (.iload_n 1, 1) := dk_27 (dk_at dksX0_weight_0 3 rfl rfl)
theorem dX0_weight_4 : decode cX0_weight 4 = .ok (.invokevirtual 38, 3) := dk_182 0 38 (dk_at dksX0_weight_0 4 rfl rfl)
theorem dX0_weight_7 : decode cX0_weight 7 = .ok (.i2l, 1) := dk_133 (dk_at dksX0_weight_0 7 rfl rfl)
theorem dX0_weight_8 : decode cX0_weight 8 = .ok (.lastore, 1) := dk_80 (dk_at dksX0_weight_0 8 rfl rfl)
theorem dX0_weight_9 : decode cX0_weight 9 = .ok (.goto 9, 3) := dk_167 0 9 (dk_at dksX0_weight_0 9 rfl rfl)
theorem dX0_weight_12 : decode cX0_weight 12 = .ok (.astore_n 3, 1) := dk_78 (dk_at dksX0_weight_0 12 rfl rfl)
theorem dX0_weight_13 : decode cX0_weight 13 = .ok (.iconst 1, 1) := dk_4 (dk_at dksX0_weight_0 13 rfl rfl)
theorem dX0_weight_14 : decode cX0_weight 14 = .ok (.ireturn, 1) := dk_172 (dk_at dksX0_weight_0 14 rfl rfl)
theorem dX0_weight_15 : decode cX0_weight 15 = .ok (.astore_n 3, 1) := dk_78 (dk_at dksX0_weight_0 15 rfl rfl)
theorem dX0_weight_16 : decode cX0_weight 16 = .ok (.iconst 2, 1) := dk_5 (dk_at dksX0_weight_0 16 rfl rfl)
theorem dX0_weight_17 : decode cX0_weight 17 = .ok (.ireturn, 1) := dk_172 (dk_at dksX0_weight_0 17 rfl rfl)
theorem dX0_weight_18 : decode cX0_weight 18 = .ok (.iconst 0, 1) := dk_3 (dk_at dksX0_weight_0 18 rfl rfl)
theorem dX0_weight_19 : decode cX0_weight 19 = .ok (.ireturn, 1) := dk_172 (dk_at dksX0_weight_0 19 rfl rfl)
abbrev cX0_step : ByteArray := method_10_code
def yX0_step : MethodName := ⟨RX0, "step", "(LTrellistag;II[J)I"⟩
def dkwX0_step_0 : List UInt8 := [45, 3, 42, 27, 28, 182, 0, 41, 133, 80, 167, 0, 7, 58, 4, 4, 172, 3, 172]
abbrev dktX0_step_0 : List UInt8 := dkwX0_step_0 ++ []
theorem dksX0_step_0 : cX0_step.data.toList.drop 0 = dktX0_step_0 := by decide +kernel
theorem dX0_step_0 : decode cX0_step 0 = .ok (.aload_n 3, 1) := dk_45 (dk_at dksX0_step_0 0 rfl rfl)
theorem dX0_step_1 : decode cX0_step 1 = .ok (.iconst 0, 1) := dk_3 (dk_at dksX0_step_0 1 rfl rfl)
theorem dX0_step_2 : decode cX0_step 2 = .ok (.aload_n 0, 1) := dk_42 (dk_at dksX0_step_0 2 rfl rfl)
theorem dX0_step_3 : decode cX0_step 3 = .ok (.iload_n 1, 1) := dk_27 (dk_at dksX0_step_0 3 rfl rfl)
theorem dX0_step_4 : decode cX0_step 4 = .ok (.iload_n 2, 1) := dk_28 (dk_at dksX0_step_0 4 rfl rfl)
theorem dX0_step_5 : decode cX0_step 5 = .ok (.invokevirtual 41, 3) := dk_182 0 41 (dk_at dksX0_step_0 5 rfl rfl)
theorem dX0_step_8 : decode cX0_step 8 = .ok (.i2l, 1) := dk_133 (dk_at dksX0_step_0 8 rfl rfl)
theorem dX0_step_9 : decode cX0_step 9 = .ok (.lastore, 1) := dk_80 (dk_at dksX0_step_0 9 rfl rfl)
theorem dX0_step_10 : decode cX0_step 10 = .ok (.goto 7, 3) := dk_167 0 7 (dk_at dksX0_step_0 10 rfl rfl)
theorem dX0_step_13 : decode cX0_step 13 = .ok (.astore 4, 2) := dk_58 4 (dk_at dksX0_step_0 13 rfl rfl)
theorem dX0_step_15 : decode cX0_step 15 = .ok (.iconst 1, 1) := dk_4 (dk_at dksX0_step_0 15 rfl rfl)
theorem dX0_step_16 : decode cX0_step 16 = .ok (.ireturn, 1) := dk_172 (dk_at dksX0_step_0 16 rfl rfl)
theorem dX0_step_17 : decode cX0_step 17 = .ok (.iconst 0, 1) := dk_3 (dk_at dksX0_step_0 17 rfl rfl)
theorem dX0_step_18 : decode cX0_step 18 = .ok (.ireturn, 1) := dk_172 (dk_at dksX0_step_0 18 rfl rfl)
abbrev cX0_path : ByteArray := method_11_code
def yX0_path : MethodName := ⟨RX0, "path", "(LTrellistag;II[J)I"⟩
def dkwX0_path_0 : List UInt8 := [45, 3, 42, 27, 28, 182, 0, 44, 133, 80, 167, 0, 7, 58, 4, 4, 172, 3, 172]
abbrev dktX0_path_0 : List UInt8 := dkwX0_path_0 ++ []
theorem dksX0_path_0 : cX0_path.data.toList.drop 0 = dktX0_path_0 := by decide +kernel
theorem dX0_path_0 : decode cX0_path 0 = .ok (.aload_n 3, 1) := dk_45 (dk_at dksX0_path_0 0 rfl rfl)
theorem dX0_path_1 : decode cX0_path 1 = .ok (.iconst 0, 1) := dk_3 (dk_at dksX0_path_0 1 rfl rfl)
theorem dX0_path_2 : decode cX0_path 2 = .ok (.aload_n 0, 1) := dk_42 (dk_at dksX0_path_0 2 rfl rfl)
theorem dX0_path_3 : decode cX0_path 3 = .ok (.iload_n 1, 1) := dk_27 (dk_at dksX0_path_0 3 rfl rfl)
theorem dX0_path_4 : decode cX0_path 4 = .ok (.iload_n 2, 1) := dk_28 (dk_at dksX0_path_0 4 rfl rfl)
theorem dX0_path_5 : decode cX0_path 5 = .ok (.invokevirtual 44, 3) := dk_182 0 44 (dk_at dksX0_path_0 5 rfl rfl)
theorem dX0_path_8 : decode cX0_path 8 = .ok (.i2l, 1) := dk_133 (dk_at dksX0_path_0 8 rfl rfl)
theorem dX0_path_9 : decode cX0_path 9 = .ok (.lastore, 1) := dk_80 (dk_at dksX0_path_0 9 rfl rfl)
theorem dX0_path_10 : decode cX0_path 10 = .ok (.goto 7, 3) := dk_167 0 7 (dk_at dksX0_path_0 10 rfl rfl)
theorem dX0_path_13 : decode cX0_path 13 = .ok (.astore 4, 2) := dk_58 4 (dk_at dksX0_path_0 13 rfl rfl)
theorem dX0_path_15 : decode cX0_path 15 = .ok (.iconst 1, 1) := dk_4 (dk_at dksX0_path_0 15 rfl rfl)
theorem dX0_path_16 : decode cX0_path 16 = .ok (.ireturn, 1) := dk_172 (dk_at dksX0_path_0 16 rfl rfl)
theorem dX0_path_17 : decode cX0_path 17 = .ok (.iconst 0, 1) := dk_3 (dk_at dksX0_path_0 17 rfl rfl)
theorem dX0_path_18 : decode cX0_path 18 = .ok (.ireturn, 1) := dk_172 (dk_at dksX0_path_0 18 rfl rfl)
abbrev cX0_pathAnew : ByteArray := method_12_code
def yX0_pathAnew : MethodName := ⟨RX0, "pathAnew", "(LTrellistag;II[J)I"⟩
def dkwX0_pathAnew_0 : List UInt8 := [45, 3, 42, 27, 28, 182, 0, 47, 133, 80, 167, 0, 7, 58, 4, 4, 172, 3, 172]
abbrev dktX0_pathAnew_0 : List UInt8 := dkwX0_pathAnew_0 ++ []
theorem dksX0_pathAnew_0 : cX0_pathAnew.data.toList.drop 0 = dktX0_pathAnew_0 := by decide +kernel
theorem dX0_pathAnew_0 : decode cX0_pathAnew 0 = .ok (.aload_n 3, 1) := dk_45 (dk_at dksX0_pathAnew_0 0 rfl rfl)
theorem dX0_pathAnew_1 : decode cX0_pathAnew 1 = .ok (.iconst 0, 1) := dk_3 (dk_at dksX0_pathAnew_0 1 rfl rfl)
theorem dX0_pathAnew_2 : decode cX0_pathAnew 2 = .ok (.aload_n 0, 1) := dk_42 (dk_at dksX0_pathAnew_0 2 rfl rfl)
theorem dX0_pathAnew_3 : decode cX0_pathAnew 3 = .ok (.iload_n 1, 1) := dk_27 (dk_at dksX0_pathAnew_0 3 rfl rfl)
theorem dX0_pathAnew_4 : decode cX0_pathAnew 4 = .ok (.iload_n 2, 1) := dk_28 (dk_at dksX0_pathAnew_0 4 rfl rfl)
theorem dX0_pathAnew_5 : decode cX0_pathAnew 5 = .ok (.invokevirtual 47, 3) := dk_182 0 47 (dk_at dksX0_pathAnew_0 5 rfl rfl)
theorem dX0_pathAnew_8 : decode cX0_pathAnew 8 = .ok (.i2l, 1) := dk_133 (dk_at dksX0_pathAnew_0 8 rfl rfl)
theorem dX0_pathAnew_9 : decode cX0_pathAnew 9 = .ok (.lastore, 1) := dk_80 (dk_at dksX0_pathAnew_0 9 rfl rfl)
theorem dX0_pathAnew_10 : decode cX0_pathAnew 10 = .ok (.goto 7, 3) := dk_167 0 7 (dk_at dksX0_pathAnew_0 10 rfl rfl)
theorem dX0_pathAnew_13 : decode cX0_pathAnew 13 = .ok (.astore 4, 2) := dk_58 4 (dk_at dksX0_pathAnew_0 13 rfl rfl)
theorem dX0_pathAnew_15 : decode cX0_pathAnew 15 = .ok (.iconst 1, 1) := dk_4 (dk_at dksX0_pathAnew_0 15 rfl rfl)
theorem dX0_pathAnew_16 : decode cX0_pathAnew 16 = .ok (.ireturn, 1) := dk_172 (dk_at dksX0_pathAnew_0 16 rfl rfl)
theorem dX0_pathAnew_17 : decode cX0_pathAnew 17 = .ok (.iconst 0, 1) := dk_3 (dk_at dksX0_pathAnew_0 17 rfl rfl)
theorem dX0_pathAnew_18 : decode cX0_pathAnew 18 = .ok (.ireturn, 1) := dk_172 (dk_at dksX0_pathAnew_0 18 rfl rfl)
abbrev cX0_product : ByteArray := method_13_code
def yX0_product : MethodName := ⟨RX0, "product", "(LTrellistag;I[J)I"⟩
def dkwX0_product_0 : List UInt8 := [44, 3, 42, 27, 182, 0, 50, 80, 167, 0, 9, 78, 4, 172, 78, 5, 172, 3, 172]
abbrev dktX0_product_0 : List UInt8 := dkwX0_product_0 ++ []
theorem dksX0_product_0 : cX0_product.data.toList.drop 0 = dktX0_product_0 := by decide +kernel
theorem dX0_product_0 : decode cX0_product 0 = .ok (.aload_n 2, 1) := dk_44 (dk_at dksX0_product_0 0 rfl rfl)
theorem dX0_product_1 : decode cX0_product 1 = .ok (.iconst 0, 1) := dk_3 (dk_at dksX0_product_0 1 rfl rfl)
theorem dX0_product_2 : decode cX0_product 2 = .ok (.aload_n 0, 1) := dk_42 (dk_at dksX0_product_0 2 rfl rfl)
theorem dX0_product_3 : decode cX0_product 3 = .ok (.iload_n 1, 1) := dk_27 (dk_at dksX0_product_0 3 rfl rfl)
theorem dX0_product_4 : decode cX0_product 4 = .ok (.invokevirtual 50, 3) := dk_182 0 50 (dk_at dksX0_product_0 4 rfl rfl)
theorem dX0_product_7 : decode cX0_product 7 = .ok (.lastore, 1) := dk_80 (dk_at dksX0_product_0 7 rfl rfl)
theorem dX0_product_8 : decode cX0_product 8 = .ok (.goto 9, 3) := dk_167 0 9 (dk_at dksX0_product_0 8 rfl rfl)
theorem dX0_product_11 : decode cX0_product 11 = .ok (.astore_n 3, 1) := dk_78 (dk_at dksX0_product_0 11 rfl rfl)
theorem dX0_product_12 : decode cX0_product 12 = .ok (.iconst 1, 1) := dk_4 (dk_at dksX0_product_0 12 rfl rfl)
theorem dX0_product_13 : decode cX0_product 13 = .ok (.ireturn, 1) := dk_172 (dk_at dksX0_product_0 13 rfl rfl)
theorem dX0_product_14 : decode cX0_product 14 = .ok (.astore_n 3, 1) := dk_78 (dk_at dksX0_product_0 14 rfl rfl)
theorem dX0_product_15 : decode cX0_product 15 = .ok (.iconst 2, 1) := dk_5 (dk_at dksX0_product_0 15 rfl rfl)
theorem dX0_product_16 : decode cX0_product 16 = .ok (.ireturn, 1) := dk_172 (dk_at dksX0_product_0 16 rfl rfl)
theorem dX0_product_17 : decode cX0_product 17 = .ok (.iconst 0, 1) := dk_3 (dk_at dksX0_product_0 17 rfl rfl)
theorem dX0_product_18 : decode cX0_product 18 = .ok (.ireturn, 1) := dk_172 (dk_at dksX0_product_0 18 rfl rfl)
abbrev cX0_cost : ByteArray := method_14_code
def yX0_cost : MethodName := ⟨RX0, "cost", "(LTrellistag;[J)I"⟩
def dkwX0_cost_0 : List UInt8 := [43, 3, 42, 182, 0, 54, 133, 80, 167, 0, 6, 77, 4, 172, 3, 172]
abbrev dktX0_cost_0 : List UInt8 := dkwX0_cost_0 ++ []
theorem dksX0_cost_0 : cX0_cost.data.toList.drop 0 = dktX0_cost_0 := by decide +kernel
theorem dX0_cost_0 : decode cX0_cost 0 = .ok (.aload_n 1, 1) := dk_43 (dk_at dksX0_cost_0 0 rfl rfl)
theorem dX0_cost_1 : decode cX0_cost 1 = .ok (.iconst 0, 1) := dk_3 (dk_at dksX0_cost_0 1 rfl rfl)
theorem dX0_cost_2 : decode cX0_cost 2 = .ok (.aload_n 0, 1) := dk_42 (dk_at dksX0_cost_0 2 rfl rfl)
theorem dX0_cost_3 : decode cX0_cost 3 = .ok (.invokevirtual 54, 3) := dk_182 0 54 (dk_at dksX0_cost_0 3 rfl rfl)
theorem dX0_cost_6 : decode cX0_cost 6 = .ok (.i2l, 1) := dk_133 (dk_at dksX0_cost_0 6 rfl rfl)
theorem dX0_cost_7 : decode cX0_cost 7 = .ok (.lastore, 1) := dk_80 (dk_at dksX0_cost_0 7 rfl rfl)
theorem dX0_cost_8 : decode cX0_cost 8 = .ok (.goto 6, 3) := dk_167 0 6 (dk_at dksX0_cost_0 8 rfl rfl)
theorem dX0_cost_11 : decode cX0_cost 11 = .ok (.astore_n 2, 1) := dk_77 (dk_at dksX0_cost_0 11 rfl rfl)
theorem dX0_cost_12 : decode cX0_cost 12 = .ok (.iconst 1, 1) := dk_4 (dk_at dksX0_cost_0 12 rfl rfl)
theorem dX0_cost_13 : decode cX0_cost 13 = .ok (.ireturn, 1) := dk_172 (dk_at dksX0_cost_0 13 rfl rfl)
theorem dX0_cost_14 : decode cX0_cost 14 = .ok (.iconst 0, 1) := dk_3 (dk_at dksX0_cost_0 14 rfl rfl)
theorem dX0_cost_15 : decode cX0_cost 15 = .ok (.ireturn, 1) := dk_172 (dk_at dksX0_cost_0 15 rfl rfl)
abbrev cX0_share : ByteArray := method_15_code
def yX0_share : MethodName := ⟨RX0, "share", "(LTrellistag;II[J)I"⟩
def dkwX0_share_0 : List UInt8 := [45, 3, 42, 27, 28, 182, 0, 57, 133, 80, 167, 0, 7, 58, 4, 4, 172, 3, 172]
abbrev dktX0_share_0 : List UInt8 := dkwX0_share_0 ++ []
theorem dksX0_share_0 : cX0_share.data.toList.drop 0 = dktX0_share_0 := by decide +kernel
theorem dX0_share_0 : decode cX0_share 0 = .ok (.aload_n 3, 1) := dk_45 (dk_at dksX0_share_0 0 rfl rfl)
theorem dX0_share_1 : decode cX0_share 1 = .ok (.iconst 0, 1) := dk_3 (dk_at dksX0_share_0 1 rfl rfl)
theorem dX0_share_2 : decode cX0_share 2 = .ok (.aload_n 0, 1) := dk_42 (dk_at dksX0_share_0 2 rfl rfl)
theorem dX0_share_3 : decode cX0_share 3 = .ok (.iload_n 1, 1) := dk_27 (dk_at dksX0_share_0 3 rfl rfl)
theorem dX0_share_4 : decode cX0_share 4 = .ok (.iload_n 2, 1) := dk_28 (dk_at dksX0_share_0 4 rfl rfl)
theorem dX0_share_5 : decode cX0_share 5 = .ok (.invokevirtual 57, 3) := dk_182 0 57 (dk_at dksX0_share_0 5 rfl rfl)
theorem dX0_share_8 : decode cX0_share 8 = .ok (.i2l, 1) := dk_133 (dk_at dksX0_share_0 8 rfl rfl)
theorem dX0_share_9 : decode cX0_share 9 = .ok (.lastore, 1) := dk_80 (dk_at dksX0_share_0 9 rfl rfl)
theorem dX0_share_10 : decode cX0_share 10 = .ok (.goto 7, 3) := dk_167 0 7 (dk_at dksX0_share_0 10 rfl rfl)
theorem dX0_share_13 : decode cX0_share 13 = .ok (.astore 4, 2) := dk_58 4 (dk_at dksX0_share_0 13 rfl rfl)
theorem dX0_share_15 : decode cX0_share 15 = .ok (.iconst 1, 1) := dk_4 (dk_at dksX0_share_0 15 rfl rfl)
theorem dX0_share_16 : decode cX0_share 16 = .ok (.ireturn, 1) := dk_172 (dk_at dksX0_share_0 16 rfl rfl)
theorem dX0_share_17 : decode cX0_share 17 = .ok (.iconst 0, 1) := dk_3 (dk_at dksX0_share_0 17 rfl rfl)
theorem dX0_share_18 : decode cX0_share 18 = .ok (.ireturn, 1) := dk_172 (dk_at dksX0_share_0 18 rfl rfl)
abbrev cX0_shareAnew : ByteArray := method_16_code
def yX0_shareAnew : MethodName := ⟨RX0, "shareAnew", "(LTrellistag;II[J)I"⟩
def dkwX0_shareAnew_0 : List UInt8 := [45, 3, 42, 27, 28, 182, 0, 60, 133, 80, 167, 0, 7, 58, 4, 4, 172, 3, 172]
abbrev dktX0_shareAnew_0 : List UInt8 := dkwX0_shareAnew_0 ++ []
theorem dksX0_shareAnew_0 : cX0_shareAnew.data.toList.drop 0 = dktX0_shareAnew_0 := by decide +kernel
theorem dX0_shareAnew_0 : decode cX0_shareAnew 0 = .ok (.aload_n 3, 1) := dk_45 (dk_at dksX0_shareAnew_0 0 rfl rfl)
theorem dX0_shareAnew_1 : decode cX0_shareAnew 1 = .ok (.iconst 0, 1) := dk_3 (dk_at dksX0_shareAnew_0 1 rfl rfl)
theorem dX0_shareAnew_2 : decode cX0_shareAnew 2 = .ok (.aload_n 0, 1) := dk_42 (dk_at dksX0_shareAnew_0 2 rfl rfl)
theorem dX0_shareAnew_3 : decode cX0_shareAnew 3 = .ok (.iload_n 1, 1) := dk_27 (dk_at dksX0_shareAnew_0 3 rfl rfl)
theorem dX0_shareAnew_4 : decode cX0_shareAnew 4 = .ok (.iload_n 2, 1) := dk_28 (dk_at dksX0_shareAnew_0 4 rfl rfl)
theorem dX0_shareAnew_5 : decode cX0_shareAnew 5 = .ok (.invokevirtual 60, 3) := dk_182 0 60 (dk_at dksX0_shareAnew_0 5 rfl rfl)
theorem dX0_shareAnew_8 : decode cX0_shareAnew 8 = .ok (.i2l, 1) := dk_133 (dk_at dksX0_shareAnew_0 8 rfl rfl)
theorem dX0_shareAnew_9 : decode cX0_shareAnew 9 = .ok (.lastore, 1) := dk_80 (dk_at dksX0_shareAnew_0 9 rfl rfl)
theorem dX0_shareAnew_10 : decode cX0_shareAnew 10 = .ok (.goto 7, 3) := dk_167 0 7 (dk_at dksX0_shareAnew_0 10 rfl rfl)
theorem dX0_shareAnew_13 : decode cX0_shareAnew 13 = .ok (.astore 4, 2) := dk_58 4 (dk_at dksX0_shareAnew_0 13 rfl rfl)
theorem dX0_shareAnew_15 : decode cX0_shareAnew 15 = .ok (.iconst 1, 1) := dk_4 (dk_at dksX0_shareAnew_0 15 rfl rfl)
theorem dX0_shareAnew_16 : decode cX0_shareAnew 16 = .ok (.ireturn, 1) := dk_172 (dk_at dksX0_shareAnew_0 16 rfl rfl)
theorem dX0_shareAnew_17 : decode cX0_shareAnew 17 = .ok (.iconst 0, 1) := dk_3 (dk_at dksX0_shareAnew_0 17 rfl rfl)
theorem dX0_shareAnew_18 : decode cX0_shareAnew 18 = .ok (.ireturn, 1) := dk_172 (dk_at dksX0_shareAnew_0 18 rfl rfl)
theorem q35 : (Jvm.Cond.initialized "TrellistagLaw") ∈ lw_all := lw_g (lw_at lw_m1 0 rfl) rfl
theorem q81 : (Jvm.Cond.classLink "TrellistagLaw" (8 : Nat) "Trellistag") ∈ lw_all := lw_g (lw_at lw_m1 46 rfl) rfl
theorem q83 : (Jvm.Cond.methodLink "TrellistagLaw" (63 : Nat) ({ cls := "Trellistag", name := "<init>", desc := "()V" } : Jvm.MethodName)) ∈ lw_all := lw_g (lw_at lw_m1 48 rfl) rfl
theorem q209 : (Jvm.Cond.methodLink "TrellistagLaw" (91 : Nat) ({ cls := "Trellistag", name := "clear", desc := "()I" } : Jvm.MethodName)) ∈ lw_all := lw_g (lw_at lw_m1 174 rfl) rfl
theorem q254 : (Jvm.Cond.methodLink "TrellistagLaw" (123 : Nat) ({ cls := "Trellistag", name := "texts", desc := "()I" } : Jvm.MethodName)) ∈ lw_all := lw_g (lw_at lw_m1 219 rfl) rfl
theorem q310 : (Jvm.Cond.methodLink "TrellistagLaw" (67 : Nat) ({ cls := "TrellistagLaw", name := "letter", desc := "(LTrellistag;C[J)I" } : Jvm.MethodName)) ∈ lw_all := lw_g (lw_at lw_m2 35 rfl) rfl
theorem q311 : (Jvm.Cond.static ({ cls := "TrellistagLaw", name := "letter", desc := "(LTrellistag;C[J)I" } : Jvm.MethodName)) ∈ lw_all := lw_g (lw_at lw_m2 36 rfl) rfl
theorem q312 : (Jvm.Cond.codeWith ({ cls := "TrellistagLaw", name := "letter", desc := "(LTrellistag;C[J)I" } : Jvm.MethodName) method_3_code (4 : Nat) (Option.some Jvm.ClassFile.FieldType.int) [((0 : Nat), (9 : Nat), (12 : Nat), (13 : Nat)), ((0 : Nat), (9 : Nat), (15 : Nat), (15 : Nat))]) ∈ lw_all := lw_g (lw_at lw_m2 37 rfl) rfl
theorem q313 : (Jvm.Cond.classLink "TrellistagLaw" (13 : Nat) "java/lang/IllegalArgumentException") ∈ lw_all := lw_g (lw_at lw_m2 38 rfl) rfl
theorem q314 : (Jvm.Cond.classLink "TrellistagLaw" (15 : Nat) "java/lang/IllegalStateException") ∈ lw_all := lw_g (lw_at lw_m2 39 rfl) rfl
theorem q315 : (Jvm.Cond.methodLink "TrellistagLaw" (7 : Nat) ({ cls := "Trellistag", name := "letter", desc := "(C)I" } : Jvm.MethodName)) ∈ lw_all := lw_g (lw_at lw_m2 40 rfl) rfl
theorem q675 : (Jvm.Cond.methodLink "TrellistagLaw" (76 : Nat) ({ cls := "TrellistagLaw", name := "tag", desc := "(LTrellistag;I[J)I" } : Jvm.MethodName)) ∈ lw_all := lw_g (lw_at lw_m3 160 rfl) rfl
theorem q676 : (Jvm.Cond.static ({ cls := "TrellistagLaw", name := "tag", desc := "(LTrellistag;I[J)I" } : Jvm.MethodName)) ∈ lw_all := lw_g (lw_at lw_m3 161 rfl) rfl
theorem q677 : (Jvm.Cond.codeWith ({ cls := "TrellistagLaw", name := "tag", desc := "(LTrellistag;I[J)I" } : Jvm.MethodName) method_4_code (4 : Nat) (Option.some Jvm.ClassFile.FieldType.int) [((0 : Nat), (9 : Nat), (12 : Nat), (21 : Nat)), ((0 : Nat), (9 : Nat), (15 : Nat), (15 : Nat))]) ∈ lw_all := lw_g (lw_at lw_m3 162 rfl) rfl
theorem q678 : (Jvm.Cond.classLink "TrellistagLaw" (21 : Nat) "java/lang/IndexOutOfBoundsException") ∈ lw_all := lw_g (lw_at lw_m3 163 rfl) rfl
theorem q697 : (Jvm.Cond.methodLink "TrellistagLaw" (17 : Nat) ({ cls := "Trellistag", name := "tag", desc := "(I)I" } : Jvm.MethodName)) ∈ lw_all := lw_g (lw_at lw_m3 182 rfl) rfl
theorem q798 : (Jvm.Cond.methodLink "TrellistagLaw" (80 : Nat) ({ cls := "TrellistagLaw", name := "add", desc := "(LTrellistag;[J)I" } : Jvm.MethodName)) ∈ lw_all := lw_g (lw_at lw_m4 43 rfl) rfl
theorem q799 : (Jvm.Cond.static ({ cls := "TrellistagLaw", name := "add", desc := "(LTrellistag;[J)I" } : Jvm.MethodName)) ∈ lw_all := lw_g (lw_at lw_m4 44 rfl) rfl
theorem q800 : (Jvm.Cond.codeWith ({ cls := "TrellistagLaw", name := "add", desc := "(LTrellistag;[J)I" } : Jvm.MethodName) method_5_code (3 : Nat) (Option.some Jvm.ClassFile.FieldType.int) [((0 : Nat), (8 : Nat), (11 : Nat), (15 : Nat))]) ∈ lw_all := lw_g (lw_at lw_m4 45 rfl) rfl
theorem q801 : (Jvm.Cond.methodLink "TrellistagLaw" (23 : Nat) ({ cls := "Trellistag", name := "add", desc := "()I" } : Jvm.MethodName)) ∈ lw_all := lw_g (lw_at lw_m4 46 rfl) rfl
theorem q1178 : (Jvm.Cond.methodLink "TrellistagLaw" (84 : Nat) ({ cls := "TrellistagLaw", name := "text", desc := "(LTrellistag;IZ[J)I" } : Jvm.MethodName)) ∈ lw_all := lw_g (lw_at lw_m5 183 rfl) rfl
theorem q1179 : (Jvm.Cond.static ({ cls := "TrellistagLaw", name := "text", desc := "(LTrellistag;IZ[J)I" } : Jvm.MethodName)) ∈ lw_all := lw_g (lw_at lw_m5 184 rfl) rfl
theorem q1180 : (Jvm.Cond.codeWith ({ cls := "TrellistagLaw", name := "text", desc := "(LTrellistag;IZ[J)I" } : Jvm.MethodName) method_6_code (5 : Nat) (Option.some Jvm.ClassFile.FieldType.int) [((0 : Nat), (17 : Nat), (20 : Nat), (21 : Nat))]) ∈ lw_all := lw_g (lw_at lw_m5 185 rfl) rfl
theorem q1181 : (Jvm.Cond.methodLink "TrellistagLaw" (27 : Nat) ({ cls := "Trellistag", name := "text", desc := "(IZ)Z" } : Jvm.MethodName)) ∈ lw_all := lw_g (lw_at lw_m5 186 rfl) rfl
theorem q1198 : (Jvm.Cond.methodLink "TrellistagLaw" (88 : Nat) ({ cls := "TrellistagLaw", name := "word", desc := "(LTrellistag;[J)I" } : Jvm.MethodName)) ∈ lw_all := lw_g (lw_at lw_m5 203 rfl) rfl
theorem q1199 : (Jvm.Cond.static ({ cls := "TrellistagLaw", name := "word", desc := "(LTrellistag;[J)I" } : Jvm.MethodName)) ∈ lw_all := lw_g (lw_at lw_m5 204 rfl) rfl
theorem q1200 : (Jvm.Cond.codeWith ({ cls := "TrellistagLaw", name := "word", desc := "(LTrellistag;[J)I" } : Jvm.MethodName) method_7_code (3 : Nat) (Option.some Jvm.ClassFile.FieldType.int) [((0 : Nat), (8 : Nat), (11 : Nat), (15 : Nat))]) ∈ lw_all := lw_g (lw_at lw_m5 205 rfl) rfl
theorem q1201 : (Jvm.Cond.methodLink "TrellistagLaw" (31 : Nat) ({ cls := "Trellistag", name := "word", desc := "()I" } : Jvm.MethodName)) ∈ lw_all := lw_g (lw_at lw_m5 206 rfl) rfl
theorem q1205 : (Jvm.Cond.methodLink "TrellistagLaw" (95 : Nat) ({ cls := "TrellistagLaw", name := "lock", desc := "(LTrellistag;II[J)I" } : Jvm.MethodName)) ∈ lw_all := lw_g (lw_at lw_m5 210 rfl) rfl
theorem q1206 : (Jvm.Cond.static ({ cls := "TrellistagLaw", name := "lock", desc := "(LTrellistag;II[J)I" } : Jvm.MethodName)) ∈ lw_all := lw_g (lw_at lw_m5 211 rfl) rfl
theorem q1207 : (Jvm.Cond.codeWith ({ cls := "TrellistagLaw", name := "lock", desc := "(LTrellistag;II[J)I" } : Jvm.MethodName) method_8_code (5 : Nat) (Option.some Jvm.ClassFile.FieldType.int) [((0 : Nat), (10 : Nat), (13 : Nat), (21 : Nat))]) ∈ lw_all := lw_g (lw_at lw_m5 212 rfl) rfl
theorem q1208 : (Jvm.Cond.methodLink "TrellistagLaw" (34 : Nat) ({ cls := "Trellistag", name := "lock", desc := "(II)I" } : Jvm.MethodName)) ∈ lw_all := lw_g (lw_at lw_m5 213 rfl) rfl
theorem q1212 : (Jvm.Cond.methodLink "TrellistagLaw" (99 : Nat) ({ cls := "TrellistagLaw", name := "weight", desc := "(LTrellistag;I[J)I" } : Jvm.MethodName)) ∈ lw_all := lw_g (lw_at lw_m5 217 rfl) rfl
theorem q1213 : (Jvm.Cond.static ({ cls := "TrellistagLaw", name := "weight", desc := "(LTrellistag;I[J)I" } : Jvm.MethodName)) ∈ lw_all := lw_g (lw_at lw_m5 218 rfl) rfl
theorem q1214 : (Jvm.Cond.codeWith ({ cls := "TrellistagLaw", name := "weight", desc := "(LTrellistag;I[J)I" } : Jvm.MethodName) method_9_code (4 : Nat) (Option.some Jvm.ClassFile.FieldType.int) [((0 : Nat), (9 : Nat), (12 : Nat), (21 : Nat)), ((0 : Nat), (9 : Nat), (15 : Nat), (15 : Nat))]) ∈ lw_all := lw_g (lw_at lw_m5 219 rfl) rfl
theorem q1215 : (Jvm.Cond.methodLink "TrellistagLaw" (38 : Nat) ({ cls := "Trellistag", name := "weight", desc := "(I)I" } : Jvm.MethodName)) ∈ lw_all := lw_g (lw_at lw_m5 220 rfl) rfl
theorem q1254 : (Jvm.Cond.methodLink "TrellistagLaw" (102 : Nat) ({ cls := "TrellistagLaw", name := "step", desc := "(LTrellistag;II[J)I" } : Jvm.MethodName)) ∈ lw_all := lw_g (lw_at lw_m6 19 rfl) rfl
theorem q1255 : (Jvm.Cond.static ({ cls := "TrellistagLaw", name := "step", desc := "(LTrellistag;II[J)I" } : Jvm.MethodName)) ∈ lw_all := lw_g (lw_at lw_m6 20 rfl) rfl
theorem q1256 : (Jvm.Cond.codeWith ({ cls := "TrellistagLaw", name := "step", desc := "(LTrellistag;II[J)I" } : Jvm.MethodName) method_10_code (5 : Nat) (Option.some Jvm.ClassFile.FieldType.int) [((0 : Nat), (10 : Nat), (13 : Nat), (21 : Nat))]) ∈ lw_all := lw_g (lw_at lw_m6 21 rfl) rfl
theorem q1257 : (Jvm.Cond.methodLink "TrellistagLaw" (41 : Nat) ({ cls := "Trellistag", name := "step", desc := "(II)I" } : Jvm.MethodName)) ∈ lw_all := lw_g (lw_at lw_m6 22 rfl) rfl
theorem q1266 : (Jvm.Cond.methodLink "TrellistagLaw" (105 : Nat) ({ cls := "TrellistagLaw", name := "path", desc := "(LTrellistag;II[J)I" } : Jvm.MethodName)) ∈ lw_all := lw_g (lw_at lw_m6 31 rfl) rfl
theorem q1267 : (Jvm.Cond.static ({ cls := "TrellistagLaw", name := "path", desc := "(LTrellistag;II[J)I" } : Jvm.MethodName)) ∈ lw_all := lw_g (lw_at lw_m6 32 rfl) rfl
theorem q1268 : (Jvm.Cond.codeWith ({ cls := "TrellistagLaw", name := "path", desc := "(LTrellistag;II[J)I" } : Jvm.MethodName) method_11_code (5 : Nat) (Option.some Jvm.ClassFile.FieldType.int) [((0 : Nat), (10 : Nat), (13 : Nat), (21 : Nat))]) ∈ lw_all := lw_g (lw_at lw_m6 33 rfl) rfl
theorem q1269 : (Jvm.Cond.methodLink "TrellistagLaw" (44 : Nat) ({ cls := "Trellistag", name := "path", desc := "(II)I" } : Jvm.MethodName)) ∈ lw_all := lw_g (lw_at lw_m6 34 rfl) rfl
theorem q1438 : (Jvm.Cond.methodLink "TrellistagLaw" (108 : Nat) ({ cls := "TrellistagLaw", name := "pathAnew", desc := "(LTrellistag;II[J)I" } : Jvm.MethodName)) ∈ lw_all := lw_g (lw_at lw_m6 203 rfl) rfl
theorem q1439 : (Jvm.Cond.static ({ cls := "TrellistagLaw", name := "pathAnew", desc := "(LTrellistag;II[J)I" } : Jvm.MethodName)) ∈ lw_all := lw_g (lw_at lw_m6 204 rfl) rfl
theorem q1440 : (Jvm.Cond.codeWith ({ cls := "TrellistagLaw", name := "pathAnew", desc := "(LTrellistag;II[J)I" } : Jvm.MethodName) method_12_code (5 : Nat) (Option.some Jvm.ClassFile.FieldType.int) [((0 : Nat), (10 : Nat), (13 : Nat), (21 : Nat))]) ∈ lw_all := lw_g (lw_at lw_m6 205 rfl) rfl
theorem q1441 : (Jvm.Cond.methodLink "TrellistagLaw" (47 : Nat) ({ cls := "Trellistag", name := "pathAnew", desc := "(II)I" } : Jvm.MethodName)) ∈ lw_all := lw_g (lw_at lw_m6 206 rfl) rfl
theorem q1516 : (Jvm.Cond.methodLink "TrellistagLaw" (111 : Nat) ({ cls := "TrellistagLaw", name := "product", desc := "(LTrellistag;I[J)I" } : Jvm.MethodName)) ∈ lw_all := lw_g (lw_at lw_m7 41 rfl) rfl
theorem q1517 : (Jvm.Cond.static ({ cls := "TrellistagLaw", name := "product", desc := "(LTrellistag;I[J)I" } : Jvm.MethodName)) ∈ lw_all := lw_g (lw_at lw_m7 42 rfl) rfl
theorem q1518 : (Jvm.Cond.codeWith ({ cls := "TrellistagLaw", name := "product", desc := "(LTrellistag;I[J)I" } : Jvm.MethodName) method_13_code (4 : Nat) (Option.some Jvm.ClassFile.FieldType.int) [((0 : Nat), (8 : Nat), (11 : Nat), (21 : Nat)), ((0 : Nat), (8 : Nat), (14 : Nat), (15 : Nat))]) ∈ lw_all := lw_g (lw_at lw_m7 43 rfl) rfl
theorem q1519 : (Jvm.Cond.methodLink "TrellistagLaw" (50 : Nat) ({ cls := "Trellistag", name := "product", desc := "(I)J" } : Jvm.MethodName)) ∈ lw_all := lw_g (lw_at lw_m7 44 rfl) rfl
theorem q1523 : (Jvm.Cond.methodLink "TrellistagLaw" (114 : Nat) ({ cls := "TrellistagLaw", name := "cost", desc := "(LTrellistag;[J)I" } : Jvm.MethodName)) ∈ lw_all := lw_g (lw_at lw_m7 48 rfl) rfl
theorem q1524 : (Jvm.Cond.static ({ cls := "TrellistagLaw", name := "cost", desc := "(LTrellistag;[J)I" } : Jvm.MethodName)) ∈ lw_all := lw_g (lw_at lw_m7 49 rfl) rfl
theorem q1525 : (Jvm.Cond.codeWith ({ cls := "TrellistagLaw", name := "cost", desc := "(LTrellistag;[J)I" } : Jvm.MethodName) method_14_code (3 : Nat) (Option.some Jvm.ClassFile.FieldType.int) [((0 : Nat), (8 : Nat), (11 : Nat), (15 : Nat))]) ∈ lw_all := lw_g (lw_at lw_m7 50 rfl) rfl
theorem q1526 : (Jvm.Cond.methodLink "TrellistagLaw" (54 : Nat) ({ cls := "Trellistag", name := "cost", desc := "()I" } : Jvm.MethodName)) ∈ lw_all := lw_g (lw_at lw_m7 51 rfl) rfl
theorem q1532 : (Jvm.Cond.methodLink "TrellistagLaw" (117 : Nat) ({ cls := "TrellistagLaw", name := "share", desc := "(LTrellistag;II[J)I" } : Jvm.MethodName)) ∈ lw_all := lw_g (lw_at lw_m7 57 rfl) rfl
theorem q1533 : (Jvm.Cond.static ({ cls := "TrellistagLaw", name := "share", desc := "(LTrellistag;II[J)I" } : Jvm.MethodName)) ∈ lw_all := lw_g (lw_at lw_m7 58 rfl) rfl
theorem q1534 : (Jvm.Cond.codeWith ({ cls := "TrellistagLaw", name := "share", desc := "(LTrellistag;II[J)I" } : Jvm.MethodName) method_15_code (5 : Nat) (Option.some Jvm.ClassFile.FieldType.int) [((0 : Nat), (10 : Nat), (13 : Nat), (21 : Nat))]) ∈ lw_all := lw_g (lw_at lw_m7 59 rfl) rfl
theorem q1535 : (Jvm.Cond.methodLink "TrellistagLaw" (57 : Nat) ({ cls := "Trellistag", name := "share", desc := "(II)I" } : Jvm.MethodName)) ∈ lw_all := lw_g (lw_at lw_m7 60 rfl) rfl
theorem q1547 : (Jvm.Cond.methodLink "TrellistagLaw" (120 : Nat) ({ cls := "TrellistagLaw", name := "shareAnew", desc := "(LTrellistag;II[J)I" } : Jvm.MethodName)) ∈ lw_all := lw_g (lw_at lw_m7 72 rfl) rfl
theorem q1548 : (Jvm.Cond.static ({ cls := "TrellistagLaw", name := "shareAnew", desc := "(LTrellistag;II[J)I" } : Jvm.MethodName)) ∈ lw_all := lw_g (lw_at lw_m7 73 rfl) rfl
theorem q1549 : (Jvm.Cond.codeWith ({ cls := "TrellistagLaw", name := "shareAnew", desc := "(LTrellistag;II[J)I" } : Jvm.MethodName) method_16_code (5 : Nat) (Option.some Jvm.ClassFile.FieldType.int) [((0 : Nat), (10 : Nat), (13 : Nat), (21 : Nat))]) ∈ lw_all := lw_g (lw_at lw_m7 74 rfl) rfl
theorem q1550 : (Jvm.Cond.methodLink "TrellistagLaw" (60 : Nat) ({ cls := "Trellistag", name := "shareAnew", desc := "(II)I" } : Jvm.MethodName)) ∈ lw_all := lw_g (lw_at lw_m7 75 rfl) rfl
theorem q1554 : (Jvm.Cond.classLink "TrellistagLaw" (64 : Nat) "TrellistagModel") ∈ lw_all := lw_g (lw_at lw_m7 79 rfl) rfl
theorem q1556 : (Jvm.Cond.methodLink "TrellistagLaw" (66 : Nat) ({ cls := "TrellistagModel", name := "<init>", desc := "()V" } : Jvm.MethodName)) ∈ lw_all := lw_g (lw_at lw_m7 81 rfl) rfl
theorem q1628 : (Jvm.Cond.methodLink "TrellistagLaw" (73 : Nat) ({ cls := "TrellistagModel", name := "thrown", desc := "()I" } : Jvm.MethodName)) ∈ lw_all := lw_g (lw_at lw_m7 153 rfl) rfl
theorem q1632 : (Jvm.Cond.methodLink "TrellistagLaw" (72 : Nat) ({ cls := "TrellistagModel", name := "letter", desc := "(C)I" } : Jvm.MethodName)) ∈ lw_all := lw_g (lw_at lw_m7 157 rfl) rfl
theorem q1643 : (Jvm.Cond.methodLink "TrellistagLaw" (79 : Nat) ({ cls := "TrellistagModel", name := "tag", desc := "(I)I" } : Jvm.MethodName)) ∈ lw_all := lw_g (lw_at lw_m7 168 rfl) rfl
theorem q1654 : (Jvm.Cond.methodLink "TrellistagLaw" (83 : Nat) ({ cls := "TrellistagModel", name := "add", desc := "()I" } : Jvm.MethodName)) ∈ lw_all := lw_g (lw_at lw_m7 179 rfl) rfl
theorem q1658 : (Jvm.Cond.methodLink "TrellistagLaw" (87 : Nat) ({ cls := "TrellistagModel", name := "text", desc := "(IZ)Z" } : Jvm.MethodName)) ∈ lw_all := lw_g (lw_at lw_m7 183 rfl) rfl
theorem q1662 : (Jvm.Cond.methodLink "TrellistagLaw" (90 : Nat) ({ cls := "TrellistagModel", name := "word", desc := "()I" } : Jvm.MethodName)) ∈ lw_all := lw_g (lw_at lw_m7 187 rfl) rfl
theorem q1666 : (Jvm.Cond.methodLink "TrellistagLaw" (94 : Nat) ({ cls := "TrellistagModel", name := "clear", desc := "()I" } : Jvm.MethodName)) ∈ lw_all := lw_g (lw_at lw_m7 191 rfl) rfl
theorem q1670 : (Jvm.Cond.methodLink "TrellistagLaw" (98 : Nat) ({ cls := "TrellistagModel", name := "lock", desc := "(II)I" } : Jvm.MethodName)) ∈ lw_all := lw_g (lw_at lw_m7 195 rfl) rfl
theorem q1678 : (Jvm.Cond.methodLink "TrellistagLaw" (101 : Nat) ({ cls := "TrellistagModel", name := "weight", desc := "(I)I" } : Jvm.MethodName)) ∈ lw_all := lw_g (lw_at lw_m7 203 rfl) rfl
theorem q1695 : (Jvm.Cond.methodLink "TrellistagLaw" (104 : Nat) ({ cls := "TrellistagModel", name := "step", desc := "(II)I" } : Jvm.MethodName)) ∈ lw_all := lw_g (lw_at lw_m7 220 rfl) rfl
theorem q1703 : (Jvm.Cond.methodLink "TrellistagLaw" (107 : Nat) ({ cls := "TrellistagModel", name := "path", desc := "(II)I" } : Jvm.MethodName)) ∈ lw_all := lw_g (lw_at lw_m7 228 rfl) rfl
theorem q1734 : (Jvm.Cond.methodLink "TrellistagLaw" (110 : Nat) ({ cls := "TrellistagModel", name := "pathAnew", desc := "(II)I" } : Jvm.MethodName)) ∈ lw_all := lw_g (lw_at lw_m8 19 rfl) rfl
theorem q1738 : (Jvm.Cond.methodLink "TrellistagLaw" (113 : Nat) ({ cls := "TrellistagModel", name := "product", desc := "(I)J" } : Jvm.MethodName)) ∈ lw_all := lw_g (lw_at lw_m8 23 rfl) rfl
theorem q1746 : (Jvm.Cond.methodLink "TrellistagLaw" (116 : Nat) ({ cls := "TrellistagModel", name := "cost", desc := "()I" } : Jvm.MethodName)) ∈ lw_all := lw_g (lw_at lw_m8 31 rfl) rfl
theorem q1752 : (Jvm.Cond.methodLink "TrellistagLaw" (119 : Nat) ({ cls := "TrellistagModel", name := "share", desc := "(II)I" } : Jvm.MethodName)) ∈ lw_all := lw_g (lw_at lw_m8 37 rfl) rfl
theorem q1761 : (Jvm.Cond.methodLink "TrellistagLaw" (122 : Nat) ({ cls := "TrellistagModel", name := "shareAnew", desc := "(II)I" } : Jvm.MethodName)) ∈ lw_all := lw_g (lw_at lw_m8 46 rfl) rfl
theorem q1765 : (Jvm.Cond.methodLink "TrellistagLaw" (126 : Nat) ({ cls := "TrellistagModel", name := "texts", desc := "()I" } : Jvm.MethodName)) ∈ lw_all := lw_g (lw_at lw_m8 50 rfl) rfl

/-! the law's own entry -/
set_option maxRecDepth 100000
abbrev cL_law : ByteArray := code
def dkwL_law_41 : List UInt8 := [167, 252, 46, 4, 172]
abbrev dktL_law_41 : List UInt8 := dkwL_law_41 ++ []
def dkwL_law_40 : List UInt8 := [153, 0, 5, 3, 172, 167, 0, 16, 43, 182, 0, 123, 44, 182, 0, 126, 159, 0, 5, 3, 172, 132, 4, 3]
abbrev dktL_law_40 : List UInt8 := dkwL_law_40 ++ dktL_law_41
def dkwL_law_39 : List UInt8 := [182, 0, 73, 21, 5, 159, 0, 5, 3, 172, 21, 5, 154, 0, 15, 45, 3, 47, 21, 6, 133, 148]
abbrev dktL_law_39 : List UInt8 := dkwL_law_39 ++ dktL_law_40
def dkwL_law_38 : List UInt8 := [184, 0, 120, 54, 5, 44, 42, 21, 4, 4, 96, 46, 42, 21, 4, 5, 96, 46, 182, 0, 122, 54, 6, 44]
abbrev dktL_law_38 : List UInt8 := dkwL_law_38 ++ dktL_law_39
def dkwL_law_37 : List UInt8 := [148, 153, 0, 5, 3, 172, 167, 0, 84, 43, 42, 21, 4, 4, 96, 46, 42, 21, 4, 5, 96, 46, 45]
abbrev dktL_law_37 : List UInt8 := dkwL_law_37 ++ dktL_law_38
def dkwL_law_36 : List UInt8 := [54, 6, 44, 182, 0, 73, 21, 5, 159, 0, 5, 3, 172, 21, 5, 154, 0, 15, 45, 3, 47, 21, 6, 133]
abbrev dktL_law_36 : List UInt8 := dkwL_law_36 ++ dktL_law_37
def dkwL_law_35 : List UInt8 := [96, 46, 45, 184, 0, 117, 54, 5, 44, 42, 21, 4, 4, 96, 46, 42, 21, 4, 5, 96, 46, 182, 0, 119]
abbrev dktL_law_35 : List UInt8 := dkwL_law_35 ++ dktL_law_36
def dkwL_law_34 : List UInt8 := [47, 21, 6, 133, 148, 153, 0, 5, 3, 172, 167, 0, 152, 43, 42, 21, 4, 4, 96, 46, 42, 21, 4, 5]
abbrev dktL_law_34 : List UInt8 := dkwL_law_34 ++ dktL_law_35
def dkwL_law_33 : List UInt8 := [44, 182, 0, 116, 54, 6, 44, 182, 0, 73, 21, 5, 159, 0, 5, 3, 172, 21, 5, 154, 0, 15, 45, 3]
abbrev dktL_law_33 : List UInt8 := dkwL_law_33 ++ dktL_law_34
def dkwL_law_32 : List UInt8 := [154, 0, 14, 45, 3, 47, 22, 6, 148, 153, 0, 5, 3, 172, 167, 0, 196, 43, 45, 184, 0, 114, 54, 5]
abbrev dktL_law_32 : List UInt8 := dkwL_law_32 ++ dktL_law_33
def dkwL_law_31 : List UInt8 := [21, 4, 4, 96, 46, 182, 0, 113, 55, 6, 44, 182, 0, 73, 21, 5, 159, 0, 5, 3, 172, 21, 5]
abbrev dktL_law_31 : List UInt8 := dkwL_law_31 ++ dktL_law_32
def dkwL_law_30 : List UInt8 := [153, 0, 5, 3, 172, 167, 0, 251, 43, 42, 21, 4, 4, 96, 46, 45, 184, 0, 111, 54, 5, 44, 42]
abbrev dktL_law_30 : List UInt8 := dkwL_law_30 ++ dktL_law_31
def dkwL_law_29 : List UInt8 := [182, 0, 73, 21, 5, 159, 0, 5, 3, 172, 21, 5, 154, 0, 15, 45, 3, 47, 21, 6, 133, 148]
abbrev dktL_law_29 : List UInt8 := dkwL_law_29 ++ dktL_law_30
def dkwL_law_28 : List UInt8 := [184, 0, 108, 54, 5, 44, 42, 21, 4, 4, 96, 46, 42, 21, 4, 5, 96, 46, 182, 0, 110, 54, 6, 44]
abbrev dktL_law_28 : List UInt8 := dkwL_law_28 ++ dktL_law_29
def dkwL_law_27 : List UInt8 := [153, 0, 5, 3, 172, 167, 1, 63, 43, 42, 21, 4, 4, 96, 46, 42, 21, 4, 5, 96, 46, 45]
abbrev dktL_law_27 : List UInt8 := dkwL_law_27 ++ dktL_law_28
def dkwL_law_26 : List UInt8 := [182, 0, 73, 21, 5, 159, 0, 5, 3, 172, 21, 5, 154, 0, 15, 45, 3, 47, 21, 6, 133, 148]
abbrev dktL_law_26 : List UInt8 := dkwL_law_26 ++ dktL_law_27
def dkwL_law_25 : List UInt8 := [184, 0, 105, 54, 5, 44, 42, 21, 4, 4, 96, 46, 42, 21, 4, 5, 96, 46, 182, 0, 107, 54, 6, 44]
abbrev dktL_law_25 : List UInt8 := dkwL_law_25 ++ dktL_law_26
def dkwL_law_24 : List UInt8 := [153, 0, 5, 3, 172, 167, 1, 131, 43, 42, 21, 4, 4, 96, 46, 42, 21, 4, 5, 96, 46, 45]
abbrev dktL_law_24 : List UInt8 := dkwL_law_24 ++ dktL_law_25
def dkwL_law_23 : List UInt8 := [182, 0, 73, 21, 5, 159, 0, 5, 3, 172, 21, 5, 154, 0, 15, 45, 3, 47, 21, 6, 133, 148]
abbrev dktL_law_23 : List UInt8 := dkwL_law_23 ++ dktL_law_24
def dkwL_law_22 : List UInt8 := [184, 0, 102, 54, 5, 44, 42, 21, 4, 4, 96, 46, 42, 21, 4, 5, 96, 46, 182, 0, 104, 54, 6, 44]
abbrev dktL_law_22 : List UInt8 := dkwL_law_22 ++ dktL_law_23
def dkwL_law_21 : List UInt8 := [153, 0, 5, 3, 172, 167, 1, 199, 43, 42, 21, 4, 4, 96, 46, 42, 21, 4, 5, 96, 46, 45]
abbrev dktL_law_21 : List UInt8 := dkwL_law_21 ++ dktL_law_22
def dkwL_law_20 : List UInt8 := [182, 0, 73, 21, 5, 159, 0, 5, 3, 172, 21, 5, 154, 0, 15, 45, 3, 47, 21, 6, 133, 148]
abbrev dktL_law_20 : List UInt8 := dkwL_law_20 ++ dktL_law_21
def dkwL_law_19 : List UInt8 := [21, 4, 4, 96, 46, 45, 184, 0, 99, 54, 5, 44, 42, 21, 4, 4, 96, 46, 182, 0, 101, 54, 6, 44]
abbrev dktL_law_19 : List UInt8 := dkwL_law_19 ++ dktL_law_20
def dkwL_law_18 : List UInt8 := [172, 21, 5, 154, 0, 15, 45, 3, 47, 21, 6, 133, 148, 153, 0, 5, 3, 172, 167, 1, 255, 43, 42]
abbrev dktL_law_18 : List UInt8 := dkwL_law_18 ++ dktL_law_19
def dkwL_law_17 : List UInt8 := [4, 96, 46, 42, 21, 4, 5, 96, 46, 182, 0, 98, 54, 6, 44, 182, 0, 73, 21, 5, 159, 0, 5, 3]
abbrev dktL_law_17 : List UInt8 := dkwL_law_17 ++ dktL_law_18
def dkwL_law_16 : List UInt8 := [172, 43, 42, 21, 4, 4, 96, 46, 42, 21, 4, 5, 96, 46, 45, 184, 0, 95, 54, 5, 44, 42, 21, 4]
abbrev dktL_law_16 : List UInt8 := dkwL_law_16 ++ dktL_law_17
def dkwL_law_15 : List UInt8 := [21, 6, 133, 148, 153, 0, 5, 3, 172, 167, 2, 80, 43, 182, 0, 91, 44, 182, 0, 94, 159, 2, 69, 3]
abbrev dktL_law_15 : List UInt8 := dkwL_law_15 ++ dktL_law_16
def dkwL_law_14 : List UInt8 := [182, 0, 90, 54, 6, 44, 182, 0, 73, 21, 5, 159, 0, 5, 3, 172, 21, 5, 154, 0, 15, 45, 3, 47]
abbrev dktL_law_14 : List UInt8 := dkwL_law_14 ++ dktL_law_15
def dkwL_law_13 : List UInt8 := [10, 167, 0, 4, 9, 148, 153, 0, 5, 3, 172, 167, 2, 124, 43, 45, 184, 0, 88, 54, 5, 44]
abbrev dktL_law_13 : List UInt8 := dkwL_law_13 ++ dktL_law_14
def dkwL_law_12 : List UInt8 := [44, 182, 0, 73, 21, 5, 159, 0, 5, 3, 172, 21, 5, 154, 0, 22, 45, 3, 47, 21, 6, 153, 0, 7]
abbrev dktL_law_12 : List UInt8 := dkwL_law_12 ++ dktL_law_13
def dkwL_law_11 : List UInt8 := [21, 4, 4, 96, 46, 42, 21, 4, 5, 96, 46, 153, 0, 7, 4, 167, 0, 4, 3, 182, 0, 87, 54, 6]
abbrev dktL_law_11 : List UInt8 := dkwL_law_11 ++ dktL_law_12
def dkwL_law_10 : List UInt8 := [46, 42, 21, 4, 5, 96, 46, 153, 0, 7, 4, 167, 0, 4, 3, 45, 184, 0, 84, 54, 5, 44, 42]
abbrev dktL_law_10 : List UInt8 := dkwL_law_10 ++ dktL_law_11
def dkwL_law_9 : List UInt8 := [154, 0, 15, 45, 3, 47, 21, 6, 133, 148, 153, 0, 5, 3, 172, 167, 2, 215, 43, 42, 21, 4, 4, 96]
abbrev dktL_law_9 : List UInt8 := dkwL_law_9 ++ dktL_law_10
def dkwL_law_8 : List UInt8 := [184, 0, 80, 54, 5, 44, 182, 0, 83, 54, 6, 44, 182, 0, 73, 21, 5, 159, 0, 5, 3, 172, 21, 5]
abbrev dktL_law_8 : List UInt8 := dkwL_law_8 ++ dktL_law_9
def dkwL_law_7 : List UInt8 := [172, 21, 5, 154, 0, 15, 45, 3, 47, 21, 6, 133, 148, 153, 0, 5, 3, 172, 167, 3, 3, 43, 45]
abbrev dktL_law_7 : List UInt8 := dkwL_law_7 ++ dktL_law_8
def dkwL_law_6 : List UInt8 := [54, 5, 44, 42, 21, 4, 4, 96, 46, 182, 0, 79, 54, 6, 44, 182, 0, 73, 21, 5, 159, 0, 5, 3]
abbrev dktL_law_6 : List UInt8 := dkwL_law_6 ++ dktL_law_7
def dkwL_law_5 : List UInt8 := [21, 6, 133, 148, 153, 0, 5, 3, 172, 167, 3, 59, 43, 42, 21, 4, 4, 96, 46, 45, 184, 0, 76]
abbrev dktL_law_5 : List UInt8 := dkwL_law_5 ++ dktL_law_6
def dkwL_law_4 : List UInt8 := [182, 0, 72, 54, 6, 44, 182, 0, 73, 21, 5, 159, 0, 5, 3, 172, 21, 5, 154, 0, 15, 45, 3, 47]
abbrev dktL_law_4 : List UInt8 := dkwL_law_4 ++ dktL_law_5
def dkwL_law_3 : List UInt8 := [43, 42, 21, 4, 4, 96, 46, 146, 45, 184, 0, 67, 54, 5, 44, 42, 21, 4, 4, 96, 46, 146]
abbrev dktL_law_3 : List UInt8 := dkwL_law_3 ++ dktL_law_4
def dkwL_law_2 : List UInt8 := [170, 0, 0, 3, 191, 0, 0, 0, 0, 0, 0, 0, 15, 0, 0, 0, 77, 0, 0, 0, 135, 0, 0, 0, 191, 0, 0, 0, 235, 0, 0, 1, 70, 0, 0, 1, 114, 0, 0, 1, 127, 0, 0, 1, 195, 0, 0, 1, 251, 0, 0, 2, 63, 0, 0, 2, 131, 0, 0, 2, 199, 0, 0, 2, 254, 0, 0, 3, 42, 0, 0, 3, 110, 0, 0, 3, 178]
abbrev dktL_law_2 : List UInt8 := dkwL_law_2 ++ dktL_law_3
def dkwL_law_1 : List UInt8 := [21, 4, 42, 190, 6, 100, 163, 3, 207, 42, 21, 4, 46, 16, 15, 126]
abbrev dktL_law_1 : List UInt8 := dkwL_law_1 ++ dktL_law_2
def dkwL_law_0 : List UInt8 := [187, 0, 8, 89, 183, 0, 63, 76, 187, 0, 64, 89, 183, 0, 66, 77, 4, 188, 11, 78, 3, 54, 4]
abbrev dktL_law_0 : List UInt8 := dkwL_law_0 ++ dktL_law_1
theorem dksL_law_0 : cL_law.data.toList.drop 0 = dktL_law_0 := by decide +kernel
theorem dksL_law_1 : cL_law.data.toList.drop 23 = dktL_law_1 := dk_seg dksL_law_0 23 rfl rfl
theorem dksL_law_2 : cL_law.data.toList.drop 39 = dktL_law_2 := dk_seg dksL_law_1 16 rfl rfl
theorem dksL_law_3 : cL_law.data.toList.drop 116 = dktL_law_3 := dk_seg dksL_law_2 77 rfl rfl
theorem dksL_law_4 : cL_law.data.toList.drop 138 = dktL_law_4 := dk_seg dksL_law_3 22 rfl rfl
theorem dksL_law_5 : cL_law.data.toList.drop 162 = dktL_law_5 := dk_seg dksL_law_4 24 rfl rfl
theorem dksL_law_6 : cL_law.data.toList.drop 185 = dktL_law_6 := dk_seg dksL_law_5 23 rfl rfl
theorem dksL_law_7 : cL_law.data.toList.drop 209 = dktL_law_7 := dk_seg dksL_law_6 24 rfl rfl
theorem dksL_law_8 : cL_law.data.toList.drop 232 = dktL_law_8 := dk_seg dksL_law_7 23 rfl rfl
theorem dksL_law_9 : cL_law.data.toList.drop 256 = dktL_law_9 := dk_seg dksL_law_8 24 rfl rfl
theorem dksL_law_10 : cL_law.data.toList.drop 280 = dktL_law_10 := dk_seg dksL_law_9 24 rfl rfl
theorem dksL_law_11 : cL_law.data.toList.drop 303 = dktL_law_11 := dk_seg dksL_law_10 23 rfl rfl
theorem dksL_law_12 : cL_law.data.toList.drop 327 = dktL_law_12 := dk_seg dksL_law_11 24 rfl rfl
theorem dksL_law_13 : cL_law.data.toList.drop 351 = dktL_law_13 := dk_seg dksL_law_12 24 rfl rfl
theorem dksL_law_14 : cL_law.data.toList.drop 373 = dktL_law_14 := dk_seg dksL_law_13 22 rfl rfl
theorem dksL_law_15 : cL_law.data.toList.drop 397 = dktL_law_15 := dk_seg dksL_law_14 24 rfl rfl
theorem dksL_law_16 : cL_law.data.toList.drop 421 = dktL_law_16 := dk_seg dksL_law_15 24 rfl rfl
theorem dksL_law_17 : cL_law.data.toList.drop 445 = dktL_law_17 := dk_seg dksL_law_16 24 rfl rfl
theorem dksL_law_18 : cL_law.data.toList.drop 469 = dktL_law_18 := dk_seg dksL_law_17 24 rfl rfl
theorem dksL_law_19 : cL_law.data.toList.drop 492 = dktL_law_19 := dk_seg dksL_law_18 23 rfl rfl
theorem dksL_law_20 : cL_law.data.toList.drop 516 = dktL_law_20 := dk_seg dksL_law_19 24 rfl rfl
theorem dksL_law_21 : cL_law.data.toList.drop 538 = dktL_law_21 := dk_seg dksL_law_20 22 rfl rfl
theorem dksL_law_22 : cL_law.data.toList.drop 560 = dktL_law_22 := dk_seg dksL_law_21 22 rfl rfl
theorem dksL_law_23 : cL_law.data.toList.drop 584 = dktL_law_23 := dk_seg dksL_law_22 24 rfl rfl
theorem dksL_law_24 : cL_law.data.toList.drop 606 = dktL_law_24 := dk_seg dksL_law_23 22 rfl rfl
theorem dksL_law_25 : cL_law.data.toList.drop 628 = dktL_law_25 := dk_seg dksL_law_24 22 rfl rfl
theorem dksL_law_26 : cL_law.data.toList.drop 652 = dktL_law_26 := dk_seg dksL_law_25 24 rfl rfl
theorem dksL_law_27 : cL_law.data.toList.drop 674 = dktL_law_27 := dk_seg dksL_law_26 22 rfl rfl
theorem dksL_law_28 : cL_law.data.toList.drop 696 = dktL_law_28 := dk_seg dksL_law_27 22 rfl rfl
theorem dksL_law_29 : cL_law.data.toList.drop 720 = dktL_law_29 := dk_seg dksL_law_28 24 rfl rfl
theorem dksL_law_30 : cL_law.data.toList.drop 742 = dktL_law_30 := dk_seg dksL_law_29 22 rfl rfl
theorem dksL_law_31 : cL_law.data.toList.drop 765 = dktL_law_31 := dk_seg dksL_law_30 23 rfl rfl
theorem dksL_law_32 : cL_law.data.toList.drop 788 = dktL_law_32 := dk_seg dksL_law_31 23 rfl rfl
theorem dksL_law_33 : cL_law.data.toList.drop 812 = dktL_law_33 := dk_seg dksL_law_32 24 rfl rfl
theorem dksL_law_34 : cL_law.data.toList.drop 836 = dktL_law_34 := dk_seg dksL_law_33 24 rfl rfl
theorem dksL_law_35 : cL_law.data.toList.drop 860 = dktL_law_35 := dk_seg dksL_law_34 24 rfl rfl
theorem dksL_law_36 : cL_law.data.toList.drop 884 = dktL_law_36 := dk_seg dksL_law_35 24 rfl rfl
theorem dksL_law_37 : cL_law.data.toList.drop 908 = dktL_law_37 := dk_seg dksL_law_36 24 rfl rfl
theorem dksL_law_38 : cL_law.data.toList.drop 931 = dktL_law_38 := dk_seg dksL_law_37 23 rfl rfl
theorem dksL_law_39 : cL_law.data.toList.drop 955 = dktL_law_39 := dk_seg dksL_law_38 24 rfl rfl
theorem dksL_law_40 : cL_law.data.toList.drop 977 = dktL_law_40 := dk_seg dksL_law_39 22 rfl rfl
theorem dksL_law_41 : cL_law.data.toList.drop 1001 = dktL_law_41 := dk_seg dksL_law_40 24 rfl rfl
theorem dL_law_0 : decode cL_law 0 = .ok (.new 8, 3) := dk_187 0 8 (dk_at dksL_law_0 0 rfl rfl)
theorem dL_law_3 : decode cL_law 3 = .ok (.dup, 1) := dk_89 (dk_at dksL_law_0 3 rfl rfl)
theorem dL_law_4 : decode cL_law 4 = .ok (.invokespecial 63, 3) := dk_183 0 63 (dk_at dksL_law_0 4 rfl rfl)
theorem dL_law_7 : decode cL_law 7 = .ok (.astore_n 1, 1) := dk_76 (dk_at dksL_law_0 7 rfl rfl)
theorem dL_law_8 : decode cL_law 8 = .ok (.new 64, 3) := dk_187 0 64 (dk_at dksL_law_0 8 rfl rfl)
theorem dL_law_11 : decode cL_law 11 = .ok (.dup, 1) := dk_89 (dk_at dksL_law_0 11 rfl rfl)
theorem dL_law_12 : decode cL_law 12 = .ok (.invokespecial 66, 3) := dk_183 0 66 (dk_at dksL_law_0 12 rfl rfl)
theorem dL_law_15 : decode cL_law 15 = .ok (.astore_n 2, 1) := dk_77 (dk_at dksL_law_0 15 rfl rfl)
theorem dL_law_16 : decode cL_law 16 = .ok (.iconst 1, 1) := dk_4 (dk_at dksL_law_0 16 rfl rfl)
theorem dL_law_17 : decode cL_law 17 = .ok (.newarray .long, 2) := dk_188_11 (dk_at dksL_law_0 17 rfl rfl)
theorem dL_law_19 : decode cL_law 19 = .ok (.astore_n 3, 1) := dk_78 (dk_at dksL_law_0 19 rfl rfl)
theorem dL_law_20 : decode cL_law 20 = .ok (.iconst 0, 1) := dk_3 (dk_at dksL_law_0 20 rfl rfl)
theorem dL_law_21 : decode cL_law 21 = .ok (.istore 4, 2) := dk_54 4 (dk_at dksL_law_0 21 rfl rfl)
theorem dL_law_23 : decode cL_law 23 = .ok (.iload 4, 2) := dk_21 4 (dk_at dksL_law_1 0 rfl rfl)
theorem dL_law_25 : decode cL_law 25 = .ok (.aload_n 0, 1) := dk_42 (dk_at dksL_law_1 2 rfl rfl)
theorem dL_law_26 : decode cL_law 26 = .ok (.arraylength, 1) := dk_190 (dk_at dksL_law_1 3 rfl rfl)
theorem dL_law_27 : decode cL_law 27 = .ok (.iconst 3, 1) := dk_6 (dk_at dksL_law_1 4 rfl rfl)
theorem dL_law_28 : decode cL_law 28 = .ok (.isub, 1) := dk_100 (dk_at dksL_law_1 5 rfl rfl)
theorem dL_law_29 : decode cL_law 29 = .ok (.if_icmp .gt 975, 3) := dk_163 3 207 (dk_at dksL_law_1 6 rfl rfl)
theorem dL_law_32 : decode cL_law 32 = .ok (.aload_n 0, 1) := dk_42 (dk_at dksL_law_1 9 rfl rfl)
theorem dL_law_33 : decode cL_law 33 = .ok (.iload 4, 2) := dk_21 4 (dk_at dksL_law_1 10 rfl rfl)
theorem dL_law_35 : decode cL_law 35 = .ok (.iaload, 1) := dk_46 (dk_at dksL_law_1 12 rfl rfl)
theorem dL_law_36 : decode cL_law 36 = .ok (.bipush 15, 2) := dk_16 15 (dk_at dksL_law_1 13 rfl rfl)
theorem dL_law_38 : decode cL_law 38 = .ok (.iand, 1) := dk_126 (dk_at dksL_law_1 15 rfl rfl)
theorem dL_law_39 : decode cL_law 39 = .ok (.tableswitch 959 0 15 #[77, 135, 191, 235, 326, 370, 383, 451, 507, 575, 643, 711, 766, 810, 878, 946], 77) := by decide +kernel
theorem dL_law_116 : decode cL_law 116 = .ok (.aload_n 1, 1) := dk_43 (dk_at dksL_law_3 0 rfl rfl)
theorem dL_law_117 : decode cL_law 117 = .ok (.aload_n 0, 1) := dk_42 (dk_at dksL_law_3 1 rfl rfl)
theorem dL_law_118 : decode cL_law 118 = .ok (.iload 4, 2) := dk_21 4 (dk_at dksL_law_3 2 rfl rfl)
theorem dL_law_120 : decode cL_law 120 = .ok (.iconst 1, 1) := dk_4 (dk_at dksL_law_3 4 rfl rfl)
theorem dL_law_121 : decode cL_law 121 = .ok (.iadd, 1) := dk_96 (dk_at dksL_law_3 5 rfl rfl)
theorem dL_law_122 : decode cL_law 122 = .ok (.iaload, 1) := dk_46 (dk_at dksL_law_3 6 rfl rfl)
theorem dL_law_123 : decode cL_law 123 = .ok (.i2c, 1) := dk_146 (dk_at dksL_law_3 7 rfl rfl)
theorem dL_law_124 : decode cL_law 124 = .ok (.aload_n 3, 1) := dk_45 (dk_at dksL_law_3 8 rfl rfl)
theorem dL_law_125 : decode cL_law 125 = .ok (.invokestatic 67, 3) := dk_184 0 67 (dk_at dksL_law_3 9 rfl rfl)
theorem dL_law_128 : decode cL_law 128 = .ok (.istore 5, 2) := dk_54 5 (dk_at dksL_law_3 12 rfl rfl)
theorem dL_law_130 : decode cL_law 130 = .ok (.aload_n 2, 1) := dk_44 (dk_at dksL_law_3 14 rfl rfl)
theorem dL_law_131 : decode cL_law 131 = .ok (.aload_n 0, 1) := dk_42 (dk_at dksL_law_3 15 rfl rfl)
theorem dL_law_132 : decode cL_law 132 = .ok (.iload 4, 2) := dk_21 4 (dk_at dksL_law_3 16 rfl rfl)
theorem dL_law_134 : decode cL_law 134 = .ok (.iconst 1, 1) := dk_4 (dk_at dksL_law_3 18 rfl rfl)
theorem dL_law_135 : decode cL_law 135 = .ok (.iadd, 1) := dk_96 (dk_at dksL_law_3 19 rfl rfl)
theorem dL_law_136 : decode cL_law 136 = .ok (.iaload, 1) := dk_46 (dk_at dksL_law_3 20 rfl rfl)
theorem dL_law_137 : decode cL_law 137 = .ok (.i2c, 1) := dk_146 (dk_at dksL_law_3 21 rfl rfl)
theorem dL_law_138 : decode cL_law 138 = .ok (.invokevirtual 72, 3) := dk_182 0 72 (dk_at dksL_law_4 0 rfl rfl)
theorem dL_law_141 : decode cL_law 141 = .ok (.istore 6, 2) := dk_54 6 (dk_at dksL_law_4 3 rfl rfl)
theorem dL_law_143 : decode cL_law 143 = .ok (.aload_n 2, 1) := dk_44 (dk_at dksL_law_4 5 rfl rfl)
theorem dL_law_144 : decode cL_law 144 = .ok (.invokevirtual 73, 3) := dk_182 0 73 (dk_at dksL_law_4 6 rfl rfl)
theorem dL_law_147 : decode cL_law 147 = .ok (.iload 5, 2) := dk_21 5 (dk_at dksL_law_4 9 rfl rfl)
theorem dL_law_149 : decode cL_law 149 = .ok (.if_icmp .eq 5, 3) := dk_159 0 5 (dk_at dksL_law_4 11 rfl rfl)
theorem dL_law_152 : decode cL_law 152 = .ok (.iconst 0, 1) := dk_3 (dk_at dksL_law_4 14 rfl rfl)
theorem dL_law_153 : decode cL_law 153 = .ok (.ireturn, 1) := dk_172 (dk_at dksL_law_4 15 rfl rfl)
theorem dL_law_154 : decode cL_law 154 = .ok (.iload 5, 2) := dk_21 5 (dk_at dksL_law_4 16 rfl rfl)
theorem dL_law_156 : decode cL_law 156 = .ok (.ifCond .ne 15, 3) := dk_154 0 15 (dk_at dksL_law_4 18 rfl rfl)
theorem dL_law_159 : decode cL_law 159 = .ok (.aload_n 3, 1) := dk_45 (dk_at dksL_law_4 21 rfl rfl)
theorem dL_law_160 : decode cL_law 160 = .ok (.iconst 0, 1) := dk_3 (dk_at dksL_law_4 22 rfl rfl)
theorem dL_law_161 : decode cL_law 161 = .ok (.laload, 1) := dk_47 (dk_at dksL_law_4 23 rfl rfl)
theorem dL_law_162 : decode cL_law 162 = .ok (.iload 6, 2) := dk_21 6 (dk_at dksL_law_5 0 rfl rfl)
theorem dL_law_164 : decode cL_law 164 = .ok (.i2l, 1) := dk_133 (dk_at dksL_law_5 2 rfl rfl)
theorem dL_law_165 : decode cL_law 165 = .ok (.lcmp, 1) := dk_148 (dk_at dksL_law_5 3 rfl rfl)
theorem dL_law_166 : decode cL_law 166 = .ok (.ifCond .eq 5, 3) := dk_153 0 5 (dk_at dksL_law_5 4 rfl rfl)
theorem dL_law_169 : decode cL_law 169 = .ok (.iconst 0, 1) := dk_3 (dk_at dksL_law_5 7 rfl rfl)
theorem dL_law_170 : decode cL_law 170 = .ok (.ireturn, 1) := dk_172 (dk_at dksL_law_5 8 rfl rfl)
theorem dL_law_171 : decode cL_law 171 = .ok (.goto 827, 3) := dk_167 3 59 (dk_at dksL_law_5 9 rfl rfl)
theorem dL_law_174 : decode cL_law 174 = .ok (.aload_n 1, 1) := dk_43 (dk_at dksL_law_5 12 rfl rfl)
theorem dL_law_175 : decode cL_law 175 = .ok (.aload_n 0, 1) := dk_42 (dk_at dksL_law_5 13 rfl rfl)
theorem dL_law_176 : decode cL_law 176 = .ok (.iload 4, 2) := dk_21 4 (dk_at dksL_law_5 14 rfl rfl)
theorem dL_law_178 : decode cL_law 178 = .ok (.iconst 1, 1) := dk_4 (dk_at dksL_law_5 16 rfl rfl)
theorem dL_law_179 : decode cL_law 179 = .ok (.iadd, 1) := dk_96 (dk_at dksL_law_5 17 rfl rfl)
theorem dL_law_180 : decode cL_law 180 = .ok (.iaload, 1) := dk_46 (dk_at dksL_law_5 18 rfl rfl)
theorem dL_law_181 : decode cL_law 181 = .ok (.aload_n 3, 1) := dk_45 (dk_at dksL_law_5 19 rfl rfl)
theorem dL_law_182 : decode cL_law 182 = .ok (.invokestatic 76, 3) := dk_184 0 76 (dk_at dksL_law_5 20 rfl rfl)
theorem dL_law_185 : decode cL_law 185 = .ok (.istore 5, 2) := dk_54 5 (dk_at dksL_law_6 0 rfl rfl)
theorem dL_law_187 : decode cL_law 187 = .ok (.aload_n 2, 1) := dk_44 (dk_at dksL_law_6 2 rfl rfl)
theorem dL_law_188 : decode cL_law 188 = .ok (.aload_n 0, 1) := dk_42 (dk_at dksL_law_6 3 rfl rfl)
theorem dL_law_189 : decode cL_law 189 = .ok (.iload 4, 2) := dk_21 4 (dk_at dksL_law_6 4 rfl rfl)
theorem dL_law_191 : decode cL_law 191 = .ok (.iconst 1, 1) := dk_4 (dk_at dksL_law_6 6 rfl rfl)
theorem dL_law_192 : decode cL_law 192 = .ok (.iadd, 1) := dk_96 (dk_at dksL_law_6 7 rfl rfl)
theorem dL_law_193 : decode cL_law 193 = .ok (.iaload, 1) := dk_46 (dk_at dksL_law_6 8 rfl rfl)
theorem dL_law_194 : decode cL_law 194 = .ok (.invokevirtual 79, 3) := dk_182 0 79 (dk_at dksL_law_6 9 rfl rfl)
theorem dL_law_197 : decode cL_law 197 = .ok (.istore 6, 2) := dk_54 6 (dk_at dksL_law_6 12 rfl rfl)
theorem dL_law_199 : decode cL_law 199 = .ok (.aload_n 2, 1) := dk_44 (dk_at dksL_law_6 14 rfl rfl)
theorem dL_law_200 : decode cL_law 200 = .ok (.invokevirtual 73, 3) := dk_182 0 73 (dk_at dksL_law_6 15 rfl rfl)
theorem dL_law_203 : decode cL_law 203 = .ok (.iload 5, 2) := dk_21 5 (dk_at dksL_law_6 18 rfl rfl)
theorem dL_law_205 : decode cL_law 205 = .ok (.if_icmp .eq 5, 3) := dk_159 0 5 (dk_at dksL_law_6 20 rfl rfl)
theorem dL_law_208 : decode cL_law 208 = .ok (.iconst 0, 1) := dk_3 (dk_at dksL_law_6 23 rfl rfl)
theorem dL_law_209 : decode cL_law 209 = .ok (.ireturn, 1) := dk_172 (dk_at dksL_law_7 0 rfl rfl)
theorem dL_law_210 : decode cL_law 210 = .ok (.iload 5, 2) := dk_21 5 (dk_at dksL_law_7 1 rfl rfl)
theorem dL_law_212 : decode cL_law 212 = .ok (.ifCond .ne 15, 3) := dk_154 0 15 (dk_at dksL_law_7 3 rfl rfl)
theorem dL_law_215 : decode cL_law 215 = .ok (.aload_n 3, 1) := dk_45 (dk_at dksL_law_7 6 rfl rfl)
theorem dL_law_216 : decode cL_law 216 = .ok (.iconst 0, 1) := dk_3 (dk_at dksL_law_7 7 rfl rfl)
theorem dL_law_217 : decode cL_law 217 = .ok (.laload, 1) := dk_47 (dk_at dksL_law_7 8 rfl rfl)
theorem dL_law_218 : decode cL_law 218 = .ok (.iload 6, 2) := dk_21 6 (dk_at dksL_law_7 9 rfl rfl)
theorem dL_law_220 : decode cL_law 220 = .ok (.i2l, 1) := dk_133 (dk_at dksL_law_7 11 rfl rfl)
theorem dL_law_221 : decode cL_law 221 = .ok (.lcmp, 1) := dk_148 (dk_at dksL_law_7 12 rfl rfl)
theorem dL_law_222 : decode cL_law 222 = .ok (.ifCond .eq 5, 3) := dk_153 0 5 (dk_at dksL_law_7 13 rfl rfl)
theorem dL_law_225 : decode cL_law 225 = .ok (.iconst 0, 1) := dk_3 (dk_at dksL_law_7 16 rfl rfl)
theorem dL_law_226 : decode cL_law 226 = .ok (.ireturn, 1) := dk_172 (dk_at dksL_law_7 17 rfl rfl)
theorem dL_law_227 : decode cL_law 227 = .ok (.goto 771, 3) := dk_167 3 3 (dk_at dksL_law_7 18 rfl rfl)
theorem dL_law_230 : decode cL_law 230 = .ok (.aload_n 1, 1) := dk_43 (dk_at dksL_law_7 21 rfl rfl)
theorem dL_law_231 : decode cL_law 231 = .ok (.aload_n 3, 1) := dk_45 (dk_at dksL_law_7 22 rfl rfl)
theorem dL_law_232 : decode cL_law 232 = .ok (.invokestatic 80, 3) := dk_184 0 80 (dk_at dksL_law_8 0 rfl rfl)
theorem dL_law_235 : decode cL_law 235 = .ok (.istore 5, 2) := dk_54 5 (dk_at dksL_law_8 3 rfl rfl)
theorem dL_law_237 : decode cL_law 237 = .ok (.aload_n 2, 1) := dk_44 (dk_at dksL_law_8 5 rfl rfl)
theorem dL_law_238 : decode cL_law 238 = .ok (.invokevirtual 83, 3) := dk_182 0 83 (dk_at dksL_law_8 6 rfl rfl)
theorem dL_law_241 : decode cL_law 241 = .ok (.istore 6, 2) := dk_54 6 (dk_at dksL_law_8 9 rfl rfl)
theorem dL_law_243 : decode cL_law 243 = .ok (.aload_n 2, 1) := dk_44 (dk_at dksL_law_8 11 rfl rfl)
theorem dL_law_244 : decode cL_law 244 = .ok (.invokevirtual 73, 3) := dk_182 0 73 (dk_at dksL_law_8 12 rfl rfl)
theorem dL_law_247 : decode cL_law 247 = .ok (.iload 5, 2) := dk_21 5 (dk_at dksL_law_8 15 rfl rfl)
theorem dL_law_249 : decode cL_law 249 = .ok (.if_icmp .eq 5, 3) := dk_159 0 5 (dk_at dksL_law_8 17 rfl rfl)
theorem dL_law_252 : decode cL_law 252 = .ok (.iconst 0, 1) := dk_3 (dk_at dksL_law_8 20 rfl rfl)
theorem dL_law_253 : decode cL_law 253 = .ok (.ireturn, 1) := dk_172 (dk_at dksL_law_8 21 rfl rfl)
theorem dL_law_254 : decode cL_law 254 = .ok (.iload 5, 2) := dk_21 5 (dk_at dksL_law_8 22 rfl rfl)
theorem dL_law_256 : decode cL_law 256 = .ok (.ifCond .ne 15, 3) := dk_154 0 15 (dk_at dksL_law_9 0 rfl rfl)
theorem dL_law_259 : decode cL_law 259 = .ok (.aload_n 3, 1) := dk_45 (dk_at dksL_law_9 3 rfl rfl)
theorem dL_law_260 : decode cL_law 260 = .ok (.iconst 0, 1) := dk_3 (dk_at dksL_law_9 4 rfl rfl)
theorem dL_law_261 : decode cL_law 261 = .ok (.laload, 1) := dk_47 (dk_at dksL_law_9 5 rfl rfl)
theorem dL_law_262 : decode cL_law 262 = .ok (.iload 6, 2) := dk_21 6 (dk_at dksL_law_9 6 rfl rfl)
theorem dL_law_264 : decode cL_law 264 = .ok (.i2l, 1) := dk_133 (dk_at dksL_law_9 8 rfl rfl)
theorem dL_law_265 : decode cL_law 265 = .ok (.lcmp, 1) := dk_148 (dk_at dksL_law_9 9 rfl rfl)
theorem dL_law_266 : decode cL_law 266 = .ok (.ifCond .eq 5, 3) := dk_153 0 5 (dk_at dksL_law_9 10 rfl rfl)
theorem dL_law_269 : decode cL_law 269 = .ok (.iconst 0, 1) := dk_3 (dk_at dksL_law_9 13 rfl rfl)
theorem dL_law_270 : decode cL_law 270 = .ok (.ireturn, 1) := dk_172 (dk_at dksL_law_9 14 rfl rfl)
theorem dL_law_271 : decode cL_law 271 = .ok (.goto 727, 3) := dk_167 2 215 (dk_at dksL_law_9 15 rfl rfl)
theorem dL_law_274 : decode cL_law 274 = .ok (.aload_n 1, 1) := dk_43 (dk_at dksL_law_9 18 rfl rfl)
theorem dL_law_275 : decode cL_law 275 = .ok (.aload_n 0, 1) := dk_42 (dk_at dksL_law_9 19 rfl rfl)
theorem dL_law_276 : decode cL_law 276 = .ok (.iload 4, 2) := dk_21 4 (dk_at dksL_law_9 20 rfl rfl)
theorem dL_law_278 : decode cL_law 278 = .ok (.iconst 1, 1) := dk_4 (dk_at dksL_law_9 22 rfl rfl)
theorem dL_law_279 : decode cL_law 279 = .ok (.iadd, 1) := dk_96 (dk_at dksL_law_9 23 rfl rfl)
theorem dL_law_280 : decode cL_law 280 = .ok (.iaload, 1) := dk_46 (dk_at dksL_law_10 0 rfl rfl)
theorem dL_law_281 : decode cL_law 281 = .ok (.aload_n 0, 1) := dk_42 (dk_at dksL_law_10 1 rfl rfl)
theorem dL_law_282 : decode cL_law 282 = .ok (.iload 4, 2) := dk_21 4 (dk_at dksL_law_10 2 rfl rfl)
theorem dL_law_284 : decode cL_law 284 = .ok (.iconst 2, 1) := dk_5 (dk_at dksL_law_10 4 rfl rfl)
theorem dL_law_285 : decode cL_law 285 = .ok (.iadd, 1) := dk_96 (dk_at dksL_law_10 5 rfl rfl)
theorem dL_law_286 : decode cL_law 286 = .ok (.iaload, 1) := dk_46 (dk_at dksL_law_10 6 rfl rfl)
theorem dL_law_287 : decode cL_law 287 = .ok (.ifCond .eq 7, 3) := dk_153 0 7 (dk_at dksL_law_10 7 rfl rfl)
theorem dL_law_290 : decode cL_law 290 = .ok (.iconst 1, 1) := dk_4 (dk_at dksL_law_10 10 rfl rfl)
theorem dL_law_291 : decode cL_law 291 = .ok (.goto 4, 3) := dk_167 0 4 (dk_at dksL_law_10 11 rfl rfl)
theorem dL_law_294 : decode cL_law 294 = .ok (.iconst 0, 1) := dk_3 (dk_at dksL_law_10 14 rfl rfl)
theorem dL_law_295 : decode cL_law 295 = .ok (.aload_n 3, 1) := dk_45 (dk_at dksL_law_10 15 rfl rfl)
theorem dL_law_296 : decode cL_law 296 = .ok (.invokestatic 84, 3) := dk_184 0 84 (dk_at dksL_law_10 16 rfl rfl)
theorem dL_law_299 : decode cL_law 299 = .ok (.istore 5, 2) := dk_54 5 (dk_at dksL_law_10 19 rfl rfl)
theorem dL_law_301 : decode cL_law 301 = .ok (.aload_n 2, 1) := dk_44 (dk_at dksL_law_10 21 rfl rfl)
theorem dL_law_302 : decode cL_law 302 = .ok (.aload_n 0, 1) := dk_42 (dk_at dksL_law_10 22 rfl rfl)
theorem dL_law_303 : decode cL_law 303 = .ok (.iload 4, 2) := dk_21 4 (dk_at dksL_law_11 0 rfl rfl)
theorem dL_law_305 : decode cL_law 305 = .ok (.iconst 1, 1) := dk_4 (dk_at dksL_law_11 2 rfl rfl)
theorem dL_law_306 : decode cL_law 306 = .ok (.iadd, 1) := dk_96 (dk_at dksL_law_11 3 rfl rfl)
theorem dL_law_307 : decode cL_law 307 = .ok (.iaload, 1) := dk_46 (dk_at dksL_law_11 4 rfl rfl)
theorem dL_law_308 : decode cL_law 308 = .ok (.aload_n 0, 1) := dk_42 (dk_at dksL_law_11 5 rfl rfl)
theorem dL_law_309 : decode cL_law 309 = .ok (.iload 4, 2) := dk_21 4 (dk_at dksL_law_11 6 rfl rfl)
theorem dL_law_311 : decode cL_law 311 = .ok (.iconst 2, 1) := dk_5 (dk_at dksL_law_11 8 rfl rfl)
theorem dL_law_312 : decode cL_law 312 = .ok (.iadd, 1) := dk_96 (dk_at dksL_law_11 9 rfl rfl)
theorem dL_law_313 : decode cL_law 313 = .ok (.iaload, 1) := dk_46 (dk_at dksL_law_11 10 rfl rfl)
theorem dL_law_314 : decode cL_law 314 = .ok (.ifCond .eq 7, 3) := dk_153 0 7 (dk_at dksL_law_11 11 rfl rfl)
theorem dL_law_317 : decode cL_law 317 = .ok (.iconst 1, 1) := dk_4 (dk_at dksL_law_11 14 rfl rfl)
theorem dL_law_318 : decode cL_law 318 = .ok (.goto 4, 3) := dk_167 0 4 (dk_at dksL_law_11 15 rfl rfl)
theorem dL_law_321 : decode cL_law 321 = .ok (.iconst 0, 1) := dk_3 (dk_at dksL_law_11 18 rfl rfl)
theorem dL_law_322 : decode cL_law 322 = .ok (.invokevirtual 87, 3) := dk_182 0 87 (dk_at dksL_law_11 19 rfl rfl)
theorem dL_law_325 : decode cL_law 325 = .ok (.istore 6, 2) := dk_54 6 (dk_at dksL_law_11 22 rfl rfl)
theorem dL_law_327 : decode cL_law 327 = .ok (.aload_n 2, 1) := dk_44 (dk_at dksL_law_12 0 rfl rfl)
theorem dL_law_328 : decode cL_law 328 = .ok (.invokevirtual 73, 3) := dk_182 0 73 (dk_at dksL_law_12 1 rfl rfl)
theorem dL_law_331 : decode cL_law 331 = .ok (.iload 5, 2) := dk_21 5 (dk_at dksL_law_12 4 rfl rfl)
theorem dL_law_333 : decode cL_law 333 = .ok (.if_icmp .eq 5, 3) := dk_159 0 5 (dk_at dksL_law_12 6 rfl rfl)
theorem dL_law_336 : decode cL_law 336 = .ok (.iconst 0, 1) := dk_3 (dk_at dksL_law_12 9 rfl rfl)
theorem dL_law_337 : decode cL_law 337 = .ok (.ireturn, 1) := dk_172 (dk_at dksL_law_12 10 rfl rfl)
theorem dL_law_338 : decode cL_law 338 = .ok (.iload 5, 2) := dk_21 5 (dk_at dksL_law_12 11 rfl rfl)
theorem dL_law_340 : decode cL_law 340 = .ok (.ifCond .ne 22, 3) := dk_154 0 22 (dk_at dksL_law_12 13 rfl rfl)
theorem dL_law_343 : decode cL_law 343 = .ok (.aload_n 3, 1) := dk_45 (dk_at dksL_law_12 16 rfl rfl)
theorem dL_law_344 : decode cL_law 344 = .ok (.iconst 0, 1) := dk_3 (dk_at dksL_law_12 17 rfl rfl)
theorem dL_law_345 : decode cL_law 345 = .ok (.laload, 1) := dk_47 (dk_at dksL_law_12 18 rfl rfl)
theorem dL_law_346 : decode cL_law 346 = .ok (.iload 6, 2) := dk_21 6 (dk_at dksL_law_12 19 rfl rfl)
theorem dL_law_348 : decode cL_law 348 = .ok (.ifCond .eq 7, 3) := dk_153 0 7 (dk_at dksL_law_12 21 rfl rfl)
theorem dL_law_351 : decode cL_law 351 = .ok (.lconst 1, 1) := dk_10 (dk_at dksL_law_13 0 rfl rfl)
theorem dL_law_352 : decode cL_law 352 = .ok (.goto 4, 3) := dk_167 0 4 (dk_at dksL_law_13 1 rfl rfl)
theorem dL_law_355 : decode cL_law 355 = .ok (.lconst 0, 1) := dk_9 (dk_at dksL_law_13 4 rfl rfl)
theorem dL_law_356 : decode cL_law 356 = .ok (.lcmp, 1) := dk_148 (dk_at dksL_law_13 5 rfl rfl)
theorem dL_law_357 : decode cL_law 357 = .ok (.ifCond .eq 5, 3) := dk_153 0 5 (dk_at dksL_law_13 6 rfl rfl)
theorem dL_law_360 : decode cL_law 360 = .ok (.iconst 0, 1) := dk_3 (dk_at dksL_law_13 9 rfl rfl)
theorem dL_law_361 : decode cL_law 361 = .ok (.ireturn, 1) := dk_172 (dk_at dksL_law_13 10 rfl rfl)
theorem dL_law_362 : decode cL_law 362 = .ok (.goto 636, 3) := dk_167 2 124 (dk_at dksL_law_13 11 rfl rfl)
theorem dL_law_365 : decode cL_law 365 = .ok (.aload_n 1, 1) := dk_43 (dk_at dksL_law_13 14 rfl rfl)
theorem dL_law_366 : decode cL_law 366 = .ok (.aload_n 3, 1) := dk_45 (dk_at dksL_law_13 15 rfl rfl)
theorem dL_law_367 : decode cL_law 367 = .ok (.invokestatic 88, 3) := dk_184 0 88 (dk_at dksL_law_13 16 rfl rfl)
theorem dL_law_370 : decode cL_law 370 = .ok (.istore 5, 2) := dk_54 5 (dk_at dksL_law_13 19 rfl rfl)
theorem dL_law_372 : decode cL_law 372 = .ok (.aload_n 2, 1) := dk_44 (dk_at dksL_law_13 21 rfl rfl)
theorem dL_law_373 : decode cL_law 373 = .ok (.invokevirtual 90, 3) := dk_182 0 90 (dk_at dksL_law_14 0 rfl rfl)
theorem dL_law_376 : decode cL_law 376 = .ok (.istore 6, 2) := dk_54 6 (dk_at dksL_law_14 3 rfl rfl)
theorem dL_law_378 : decode cL_law 378 = .ok (.aload_n 2, 1) := dk_44 (dk_at dksL_law_14 5 rfl rfl)
theorem dL_law_379 : decode cL_law 379 = .ok (.invokevirtual 73, 3) := dk_182 0 73 (dk_at dksL_law_14 6 rfl rfl)
theorem dL_law_382 : decode cL_law 382 = .ok (.iload 5, 2) := dk_21 5 (dk_at dksL_law_14 9 rfl rfl)
theorem dL_law_384 : decode cL_law 384 = .ok (.if_icmp .eq 5, 3) := dk_159 0 5 (dk_at dksL_law_14 11 rfl rfl)
theorem dL_law_387 : decode cL_law 387 = .ok (.iconst 0, 1) := dk_3 (dk_at dksL_law_14 14 rfl rfl)
theorem dL_law_388 : decode cL_law 388 = .ok (.ireturn, 1) := dk_172 (dk_at dksL_law_14 15 rfl rfl)
theorem dL_law_389 : decode cL_law 389 = .ok (.iload 5, 2) := dk_21 5 (dk_at dksL_law_14 16 rfl rfl)
theorem dL_law_391 : decode cL_law 391 = .ok (.ifCond .ne 15, 3) := dk_154 0 15 (dk_at dksL_law_14 18 rfl rfl)
theorem dL_law_394 : decode cL_law 394 = .ok (.aload_n 3, 1) := dk_45 (dk_at dksL_law_14 21 rfl rfl)
theorem dL_law_395 : decode cL_law 395 = .ok (.iconst 0, 1) := dk_3 (dk_at dksL_law_14 22 rfl rfl)
theorem dL_law_396 : decode cL_law 396 = .ok (.laload, 1) := dk_47 (dk_at dksL_law_14 23 rfl rfl)
theorem dL_law_397 : decode cL_law 397 = .ok (.iload 6, 2) := dk_21 6 (dk_at dksL_law_15 0 rfl rfl)
theorem dL_law_399 : decode cL_law 399 = .ok (.i2l, 1) := dk_133 (dk_at dksL_law_15 2 rfl rfl)
theorem dL_law_400 : decode cL_law 400 = .ok (.lcmp, 1) := dk_148 (dk_at dksL_law_15 3 rfl rfl)
theorem dL_law_401 : decode cL_law 401 = .ok (.ifCond .eq 5, 3) := dk_153 0 5 (dk_at dksL_law_15 4 rfl rfl)
theorem dL_law_404 : decode cL_law 404 = .ok (.iconst 0, 1) := dk_3 (dk_at dksL_law_15 7 rfl rfl)
theorem dL_law_405 : decode cL_law 405 = .ok (.ireturn, 1) := dk_172 (dk_at dksL_law_15 8 rfl rfl)
theorem dL_law_406 : decode cL_law 406 = .ok (.goto 592, 3) := dk_167 2 80 (dk_at dksL_law_15 9 rfl rfl)
theorem dL_law_409 : decode cL_law 409 = .ok (.aload_n 1, 1) := dk_43 (dk_at dksL_law_15 12 rfl rfl)
theorem dL_law_410 : decode cL_law 410 = .ok (.invokevirtual 91, 3) := dk_182 0 91 (dk_at dksL_law_15 13 rfl rfl)
theorem dL_law_413 : decode cL_law 413 = .ok (.aload_n 2, 1) := dk_44 (dk_at dksL_law_15 16 rfl rfl)
theorem dL_law_414 : decode cL_law 414 = .ok (.invokevirtual 94, 3) := dk_182 0 94 (dk_at dksL_law_15 17 rfl rfl)
theorem dL_law_417 : decode cL_law 417 = .ok (.if_icmp .eq 581, 3) := dk_159 2 69 (dk_at dksL_law_15 20 rfl rfl)
theorem dL_law_420 : decode cL_law 420 = .ok (.iconst 0, 1) := dk_3 (dk_at dksL_law_15 23 rfl rfl)
theorem dL_law_421 : decode cL_law 421 = .ok (.ireturn, 1) := dk_172 (dk_at dksL_law_16 0 rfl rfl)
theorem dL_law_422 : decode cL_law 422 = .ok (.aload_n 1, 1) := dk_43 (dk_at dksL_law_16 1 rfl rfl)
theorem dL_law_423 : decode cL_law 423 = .ok (.aload_n 0, 1) := dk_42 (dk_at dksL_law_16 2 rfl rfl)
theorem dL_law_424 : decode cL_law 424 = .ok (.iload 4, 2) := dk_21 4 (dk_at dksL_law_16 3 rfl rfl)
theorem dL_law_426 : decode cL_law 426 = .ok (.iconst 1, 1) := dk_4 (dk_at dksL_law_16 5 rfl rfl)
theorem dL_law_427 : decode cL_law 427 = .ok (.iadd, 1) := dk_96 (dk_at dksL_law_16 6 rfl rfl)
theorem dL_law_428 : decode cL_law 428 = .ok (.iaload, 1) := dk_46 (dk_at dksL_law_16 7 rfl rfl)
theorem dL_law_429 : decode cL_law 429 = .ok (.aload_n 0, 1) := dk_42 (dk_at dksL_law_16 8 rfl rfl)
theorem dL_law_430 : decode cL_law 430 = .ok (.iload 4, 2) := dk_21 4 (dk_at dksL_law_16 9 rfl rfl)
theorem dL_law_432 : decode cL_law 432 = .ok (.iconst 2, 1) := dk_5 (dk_at dksL_law_16 11 rfl rfl)
theorem dL_law_433 : decode cL_law 433 = .ok (.iadd, 1) := dk_96 (dk_at dksL_law_16 12 rfl rfl)
theorem dL_law_434 : decode cL_law 434 = .ok (.iaload, 1) := dk_46 (dk_at dksL_law_16 13 rfl rfl)
theorem dL_law_435 : decode cL_law 435 = .ok (.aload_n 3, 1) := dk_45 (dk_at dksL_law_16 14 rfl rfl)
theorem dL_law_436 : decode cL_law 436 = .ok (.invokestatic 95, 3) := dk_184 0 95 (dk_at dksL_law_16 15 rfl rfl)
theorem dL_law_439 : decode cL_law 439 = .ok (.istore 5, 2) := dk_54 5 (dk_at dksL_law_16 18 rfl rfl)
theorem dL_law_441 : decode cL_law 441 = .ok (.aload_n 2, 1) := dk_44 (dk_at dksL_law_16 20 rfl rfl)
theorem dL_law_442 : decode cL_law 442 = .ok (.aload_n 0, 1) := dk_42 (dk_at dksL_law_16 21 rfl rfl)
theorem dL_law_443 : decode cL_law 443 = .ok (.iload 4, 2) := dk_21 4 (dk_at dksL_law_16 22 rfl rfl)
theorem dL_law_445 : decode cL_law 445 = .ok (.iconst 1, 1) := dk_4 (dk_at dksL_law_17 0 rfl rfl)
theorem dL_law_446 : decode cL_law 446 = .ok (.iadd, 1) := dk_96 (dk_at dksL_law_17 1 rfl rfl)
theorem dL_law_447 : decode cL_law 447 = .ok (.iaload, 1) := dk_46 (dk_at dksL_law_17 2 rfl rfl)
theorem dL_law_448 : decode cL_law 448 = .ok (.aload_n 0, 1) := dk_42 (dk_at dksL_law_17 3 rfl rfl)
theorem dL_law_449 : decode cL_law 449 = .ok (.iload 4, 2) := dk_21 4 (dk_at dksL_law_17 4 rfl rfl)
theorem dL_law_451 : decode cL_law 451 = .ok (.iconst 2, 1) := dk_5 (dk_at dksL_law_17 6 rfl rfl)
theorem dL_law_452 : decode cL_law 452 = .ok (.iadd, 1) := dk_96 (dk_at dksL_law_17 7 rfl rfl)
theorem dL_law_453 : decode cL_law 453 = .ok (.iaload, 1) := dk_46 (dk_at dksL_law_17 8 rfl rfl)
theorem dL_law_454 : decode cL_law 454 = .ok (.invokevirtual 98, 3) := dk_182 0 98 (dk_at dksL_law_17 9 rfl rfl)
theorem dL_law_457 : decode cL_law 457 = .ok (.istore 6, 2) := dk_54 6 (dk_at dksL_law_17 12 rfl rfl)
theorem dL_law_459 : decode cL_law 459 = .ok (.aload_n 2, 1) := dk_44 (dk_at dksL_law_17 14 rfl rfl)
theorem dL_law_460 : decode cL_law 460 = .ok (.invokevirtual 73, 3) := dk_182 0 73 (dk_at dksL_law_17 15 rfl rfl)
theorem dL_law_463 : decode cL_law 463 = .ok (.iload 5, 2) := dk_21 5 (dk_at dksL_law_17 18 rfl rfl)
theorem dL_law_465 : decode cL_law 465 = .ok (.if_icmp .eq 5, 3) := dk_159 0 5 (dk_at dksL_law_17 20 rfl rfl)
theorem dL_law_468 : decode cL_law 468 = .ok (.iconst 0, 1) := dk_3 (dk_at dksL_law_17 23 rfl rfl)
theorem dL_law_469 : decode cL_law 469 = .ok (.ireturn, 1) := dk_172 (dk_at dksL_law_18 0 rfl rfl)
theorem dL_law_470 : decode cL_law 470 = .ok (.iload 5, 2) := dk_21 5 (dk_at dksL_law_18 1 rfl rfl)
theorem dL_law_472 : decode cL_law 472 = .ok (.ifCond .ne 15, 3) := dk_154 0 15 (dk_at dksL_law_18 3 rfl rfl)
theorem dL_law_475 : decode cL_law 475 = .ok (.aload_n 3, 1) := dk_45 (dk_at dksL_law_18 6 rfl rfl)
theorem dL_law_476 : decode cL_law 476 = .ok (.iconst 0, 1) := dk_3 (dk_at dksL_law_18 7 rfl rfl)
theorem dL_law_477 : decode cL_law 477 = .ok (.laload, 1) := dk_47 (dk_at dksL_law_18 8 rfl rfl)
theorem dL_law_478 : decode cL_law 478 = .ok (.iload 6, 2) := dk_21 6 (dk_at dksL_law_18 9 rfl rfl)
theorem dL_law_480 : decode cL_law 480 = .ok (.i2l, 1) := dk_133 (dk_at dksL_law_18 11 rfl rfl)
theorem dL_law_481 : decode cL_law 481 = .ok (.lcmp, 1) := dk_148 (dk_at dksL_law_18 12 rfl rfl)
theorem dL_law_482 : decode cL_law 482 = .ok (.ifCond .eq 5, 3) := dk_153 0 5 (dk_at dksL_law_18 13 rfl rfl)
theorem dL_law_485 : decode cL_law 485 = .ok (.iconst 0, 1) := dk_3 (dk_at dksL_law_18 16 rfl rfl)
theorem dL_law_486 : decode cL_law 486 = .ok (.ireturn, 1) := dk_172 (dk_at dksL_law_18 17 rfl rfl)
theorem dL_law_487 : decode cL_law 487 = .ok (.goto 511, 3) := dk_167 1 255 (dk_at dksL_law_18 18 rfl rfl)
theorem dL_law_490 : decode cL_law 490 = .ok (.aload_n 1, 1) := dk_43 (dk_at dksL_law_18 21 rfl rfl)
theorem dL_law_491 : decode cL_law 491 = .ok (.aload_n 0, 1) := dk_42 (dk_at dksL_law_18 22 rfl rfl)
theorem dL_law_492 : decode cL_law 492 = .ok (.iload 4, 2) := dk_21 4 (dk_at dksL_law_19 0 rfl rfl)
theorem dL_law_494 : decode cL_law 494 = .ok (.iconst 1, 1) := dk_4 (dk_at dksL_law_19 2 rfl rfl)
theorem dL_law_495 : decode cL_law 495 = .ok (.iadd, 1) := dk_96 (dk_at dksL_law_19 3 rfl rfl)
theorem dL_law_496 : decode cL_law 496 = .ok (.iaload, 1) := dk_46 (dk_at dksL_law_19 4 rfl rfl)
theorem dL_law_497 : decode cL_law 497 = .ok (.aload_n 3, 1) := dk_45 (dk_at dksL_law_19 5 rfl rfl)
theorem dL_law_498 : decode cL_law 498 = .ok (.invokestatic 99, 3) := dk_184 0 99 (dk_at dksL_law_19 6 rfl rfl)
theorem dL_law_501 : decode cL_law 501 = .ok (.istore 5, 2) := dk_54 5 (dk_at dksL_law_19 9 rfl rfl)
theorem dL_law_503 : decode cL_law 503 = .ok (.aload_n 2, 1) := dk_44 (dk_at dksL_law_19 11 rfl rfl)
theorem dL_law_504 : decode cL_law 504 = .ok (.aload_n 0, 1) := dk_42 (dk_at dksL_law_19 12 rfl rfl)
theorem dL_law_505 : decode cL_law 505 = .ok (.iload 4, 2) := dk_21 4 (dk_at dksL_law_19 13 rfl rfl)
theorem dL_law_507 : decode cL_law 507 = .ok (.iconst 1, 1) := dk_4 (dk_at dksL_law_19 15 rfl rfl)
theorem dL_law_508 : decode cL_law 508 = .ok (.iadd, 1) := dk_96 (dk_at dksL_law_19 16 rfl rfl)
theorem dL_law_509 : decode cL_law 509 = .ok (.iaload, 1) := dk_46 (dk_at dksL_law_19 17 rfl rfl)
theorem dL_law_510 : decode cL_law 510 = .ok (.invokevirtual 101, 3) := dk_182 0 101 (dk_at dksL_law_19 18 rfl rfl)
theorem dL_law_513 : decode cL_law 513 = .ok (.istore 6, 2) := dk_54 6 (dk_at dksL_law_19 21 rfl rfl)
theorem dL_law_515 : decode cL_law 515 = .ok (.aload_n 2, 1) := dk_44 (dk_at dksL_law_19 23 rfl rfl)
theorem dL_law_516 : decode cL_law 516 = .ok (.invokevirtual 73, 3) := dk_182 0 73 (dk_at dksL_law_20 0 rfl rfl)
theorem dL_law_519 : decode cL_law 519 = .ok (.iload 5, 2) := dk_21 5 (dk_at dksL_law_20 3 rfl rfl)
theorem dL_law_521 : decode cL_law 521 = .ok (.if_icmp .eq 5, 3) := dk_159 0 5 (dk_at dksL_law_20 5 rfl rfl)
theorem dL_law_524 : decode cL_law 524 = .ok (.iconst 0, 1) := dk_3 (dk_at dksL_law_20 8 rfl rfl)
theorem dL_law_525 : decode cL_law 525 = .ok (.ireturn, 1) := dk_172 (dk_at dksL_law_20 9 rfl rfl)
theorem dL_law_526 : decode cL_law 526 = .ok (.iload 5, 2) := dk_21 5 (dk_at dksL_law_20 10 rfl rfl)
theorem dL_law_528 : decode cL_law 528 = .ok (.ifCond .ne 15, 3) := dk_154 0 15 (dk_at dksL_law_20 12 rfl rfl)
theorem dL_law_531 : decode cL_law 531 = .ok (.aload_n 3, 1) := dk_45 (dk_at dksL_law_20 15 rfl rfl)
theorem dL_law_532 : decode cL_law 532 = .ok (.iconst 0, 1) := dk_3 (dk_at dksL_law_20 16 rfl rfl)
theorem dL_law_533 : decode cL_law 533 = .ok (.laload, 1) := dk_47 (dk_at dksL_law_20 17 rfl rfl)
theorem dL_law_534 : decode cL_law 534 = .ok (.iload 6, 2) := dk_21 6 (dk_at dksL_law_20 18 rfl rfl)
theorem dL_law_536 : decode cL_law 536 = .ok (.i2l, 1) := dk_133 (dk_at dksL_law_20 20 rfl rfl)
theorem dL_law_537 : decode cL_law 537 = .ok (.lcmp, 1) := dk_148 (dk_at dksL_law_20 21 rfl rfl)
theorem dL_law_538 : decode cL_law 538 = .ok (.ifCond .eq 5, 3) := dk_153 0 5 (dk_at dksL_law_21 0 rfl rfl)
theorem dL_law_541 : decode cL_law 541 = .ok (.iconst 0, 1) := dk_3 (dk_at dksL_law_21 3 rfl rfl)
theorem dL_law_542 : decode cL_law 542 = .ok (.ireturn, 1) := dk_172 (dk_at dksL_law_21 4 rfl rfl)
theorem dL_law_543 : decode cL_law 543 = .ok (.goto 455, 3) := dk_167 1 199 (dk_at dksL_law_21 5 rfl rfl)
theorem dL_law_546 : decode cL_law 546 = .ok (.aload_n 1, 1) := dk_43 (dk_at dksL_law_21 8 rfl rfl)
theorem dL_law_547 : decode cL_law 547 = .ok (.aload_n 0, 1) := dk_42 (dk_at dksL_law_21 9 rfl rfl)
theorem dL_law_548 : decode cL_law 548 = .ok (.iload 4, 2) := dk_21 4 (dk_at dksL_law_21 10 rfl rfl)
theorem dL_law_550 : decode cL_law 550 = .ok (.iconst 1, 1) := dk_4 (dk_at dksL_law_21 12 rfl rfl)
theorem dL_law_551 : decode cL_law 551 = .ok (.iadd, 1) := dk_96 (dk_at dksL_law_21 13 rfl rfl)
theorem dL_law_552 : decode cL_law 552 = .ok (.iaload, 1) := dk_46 (dk_at dksL_law_21 14 rfl rfl)
theorem dL_law_553 : decode cL_law 553 = .ok (.aload_n 0, 1) := dk_42 (dk_at dksL_law_21 15 rfl rfl)
theorem dL_law_554 : decode cL_law 554 = .ok (.iload 4, 2) := dk_21 4 (dk_at dksL_law_21 16 rfl rfl)
theorem dL_law_556 : decode cL_law 556 = .ok (.iconst 2, 1) := dk_5 (dk_at dksL_law_21 18 rfl rfl)
theorem dL_law_557 : decode cL_law 557 = .ok (.iadd, 1) := dk_96 (dk_at dksL_law_21 19 rfl rfl)
theorem dL_law_558 : decode cL_law 558 = .ok (.iaload, 1) := dk_46 (dk_at dksL_law_21 20 rfl rfl)
theorem dL_law_559 : decode cL_law 559 = .ok (.aload_n 3, 1) := dk_45 (dk_at dksL_law_21 21 rfl rfl)
theorem dL_law_560 : decode cL_law 560 = .ok (.invokestatic 102, 3) := dk_184 0 102 (dk_at dksL_law_22 0 rfl rfl)
theorem dL_law_563 : decode cL_law 563 = .ok (.istore 5, 2) := dk_54 5 (dk_at dksL_law_22 3 rfl rfl)
theorem dL_law_565 : decode cL_law 565 = .ok (.aload_n 2, 1) := dk_44 (dk_at dksL_law_22 5 rfl rfl)
theorem dL_law_566 : decode cL_law 566 = .ok (.aload_n 0, 1) := dk_42 (dk_at dksL_law_22 6 rfl rfl)
theorem dL_law_567 : decode cL_law 567 = .ok (.iload 4, 2) := dk_21 4 (dk_at dksL_law_22 7 rfl rfl)
theorem dL_law_569 : decode cL_law 569 = .ok (.iconst 1, 1) := dk_4 (dk_at dksL_law_22 9 rfl rfl)
theorem dL_law_570 : decode cL_law 570 = .ok (.iadd, 1) := dk_96 (dk_at dksL_law_22 10 rfl rfl)
theorem dL_law_571 : decode cL_law 571 = .ok (.iaload, 1) := dk_46 (dk_at dksL_law_22 11 rfl rfl)
theorem dL_law_572 : decode cL_law 572 = .ok (.aload_n 0, 1) := dk_42 (dk_at dksL_law_22 12 rfl rfl)
theorem dL_law_573 : decode cL_law 573 = .ok (.iload 4, 2) := dk_21 4 (dk_at dksL_law_22 13 rfl rfl)
theorem dL_law_575 : decode cL_law 575 = .ok (.iconst 2, 1) := dk_5 (dk_at dksL_law_22 15 rfl rfl)
theorem dL_law_576 : decode cL_law 576 = .ok (.iadd, 1) := dk_96 (dk_at dksL_law_22 16 rfl rfl)
theorem dL_law_577 : decode cL_law 577 = .ok (.iaload, 1) := dk_46 (dk_at dksL_law_22 17 rfl rfl)
theorem dL_law_578 : decode cL_law 578 = .ok (.invokevirtual 104, 3) := dk_182 0 104 (dk_at dksL_law_22 18 rfl rfl)
theorem dL_law_581 : decode cL_law 581 = .ok (.istore 6, 2) := dk_54 6 (dk_at dksL_law_22 21 rfl rfl)
theorem dL_law_583 : decode cL_law 583 = .ok (.aload_n 2, 1) := dk_44 (dk_at dksL_law_22 23 rfl rfl)
theorem dL_law_584 : decode cL_law 584 = .ok (.invokevirtual 73, 3) := dk_182 0 73 (dk_at dksL_law_23 0 rfl rfl)
theorem dL_law_587 : decode cL_law 587 = .ok (.iload 5, 2) := dk_21 5 (dk_at dksL_law_23 3 rfl rfl)
theorem dL_law_589 : decode cL_law 589 = .ok (.if_icmp .eq 5, 3) := dk_159 0 5 (dk_at dksL_law_23 5 rfl rfl)
theorem dL_law_592 : decode cL_law 592 = .ok (.iconst 0, 1) := dk_3 (dk_at dksL_law_23 8 rfl rfl)
theorem dL_law_593 : decode cL_law 593 = .ok (.ireturn, 1) := dk_172 (dk_at dksL_law_23 9 rfl rfl)
theorem dL_law_594 : decode cL_law 594 = .ok (.iload 5, 2) := dk_21 5 (dk_at dksL_law_23 10 rfl rfl)
theorem dL_law_596 : decode cL_law 596 = .ok (.ifCond .ne 15, 3) := dk_154 0 15 (dk_at dksL_law_23 12 rfl rfl)
theorem dL_law_599 : decode cL_law 599 = .ok (.aload_n 3, 1) := dk_45 (dk_at dksL_law_23 15 rfl rfl)
theorem dL_law_600 : decode cL_law 600 = .ok (.iconst 0, 1) := dk_3 (dk_at dksL_law_23 16 rfl rfl)
theorem dL_law_601 : decode cL_law 601 = .ok (.laload, 1) := dk_47 (dk_at dksL_law_23 17 rfl rfl)
theorem dL_law_602 : decode cL_law 602 = .ok (.iload 6, 2) := dk_21 6 (dk_at dksL_law_23 18 rfl rfl)
theorem dL_law_604 : decode cL_law 604 = .ok (.i2l, 1) := dk_133 (dk_at dksL_law_23 20 rfl rfl)
theorem dL_law_605 : decode cL_law 605 = .ok (.lcmp, 1) := dk_148 (dk_at dksL_law_23 21 rfl rfl)
theorem dL_law_606 : decode cL_law 606 = .ok (.ifCond .eq 5, 3) := dk_153 0 5 (dk_at dksL_law_24 0 rfl rfl)
theorem dL_law_609 : decode cL_law 609 = .ok (.iconst 0, 1) := dk_3 (dk_at dksL_law_24 3 rfl rfl)
theorem dL_law_610 : decode cL_law 610 = .ok (.ireturn, 1) := dk_172 (dk_at dksL_law_24 4 rfl rfl)
theorem dL_law_611 : decode cL_law 611 = .ok (.goto 387, 3) := dk_167 1 131 (dk_at dksL_law_24 5 rfl rfl)
theorem dL_law_614 : decode cL_law 614 = .ok (.aload_n 1, 1) := dk_43 (dk_at dksL_law_24 8 rfl rfl)
theorem dL_law_615 : decode cL_law 615 = .ok (.aload_n 0, 1) := dk_42 (dk_at dksL_law_24 9 rfl rfl)
theorem dL_law_616 : decode cL_law 616 = .ok (.iload 4, 2) := dk_21 4 (dk_at dksL_law_24 10 rfl rfl)
theorem dL_law_618 : decode cL_law 618 = .ok (.iconst 1, 1) := dk_4 (dk_at dksL_law_24 12 rfl rfl)
theorem dL_law_619 : decode cL_law 619 = .ok (.iadd, 1) := dk_96 (dk_at dksL_law_24 13 rfl rfl)
theorem dL_law_620 : decode cL_law 620 = .ok (.iaload, 1) := dk_46 (dk_at dksL_law_24 14 rfl rfl)
theorem dL_law_621 : decode cL_law 621 = .ok (.aload_n 0, 1) := dk_42 (dk_at dksL_law_24 15 rfl rfl)
theorem dL_law_622 : decode cL_law 622 = .ok (.iload 4, 2) := dk_21 4 (dk_at dksL_law_24 16 rfl rfl)
theorem dL_law_624 : decode cL_law 624 = .ok (.iconst 2, 1) := dk_5 (dk_at dksL_law_24 18 rfl rfl)
theorem dL_law_625 : decode cL_law 625 = .ok (.iadd, 1) := dk_96 (dk_at dksL_law_24 19 rfl rfl)
theorem dL_law_626 : decode cL_law 626 = .ok (.iaload, 1) := dk_46 (dk_at dksL_law_24 20 rfl rfl)
theorem dL_law_627 : decode cL_law 627 = .ok (.aload_n 3, 1) := dk_45 (dk_at dksL_law_24 21 rfl rfl)
theorem dL_law_628 : decode cL_law 628 = .ok (.invokestatic 105, 3) := dk_184 0 105 (dk_at dksL_law_25 0 rfl rfl)
theorem dL_law_631 : decode cL_law 631 = .ok (.istore 5, 2) := dk_54 5 (dk_at dksL_law_25 3 rfl rfl)
theorem dL_law_633 : decode cL_law 633 = .ok (.aload_n 2, 1) := dk_44 (dk_at dksL_law_25 5 rfl rfl)
theorem dL_law_634 : decode cL_law 634 = .ok (.aload_n 0, 1) := dk_42 (dk_at dksL_law_25 6 rfl rfl)
theorem dL_law_635 : decode cL_law 635 = .ok (.iload 4, 2) := dk_21 4 (dk_at dksL_law_25 7 rfl rfl)
theorem dL_law_637 : decode cL_law 637 = .ok (.iconst 1, 1) := dk_4 (dk_at dksL_law_25 9 rfl rfl)
theorem dL_law_638 : decode cL_law 638 = .ok (.iadd, 1) := dk_96 (dk_at dksL_law_25 10 rfl rfl)
theorem dL_law_639 : decode cL_law 639 = .ok (.iaload, 1) := dk_46 (dk_at dksL_law_25 11 rfl rfl)
theorem dL_law_640 : decode cL_law 640 = .ok (.aload_n 0, 1) := dk_42 (dk_at dksL_law_25 12 rfl rfl)
theorem dL_law_641 : decode cL_law 641 = .ok (.iload 4, 2) := dk_21 4 (dk_at dksL_law_25 13 rfl rfl)
theorem dL_law_643 : decode cL_law 643 = .ok (.iconst 2, 1) := dk_5 (dk_at dksL_law_25 15 rfl rfl)
theorem dL_law_644 : decode cL_law 644 = .ok (.iadd, 1) := dk_96 (dk_at dksL_law_25 16 rfl rfl)
theorem dL_law_645 : decode cL_law 645 = .ok (.iaload, 1) := dk_46 (dk_at dksL_law_25 17 rfl rfl)
theorem dL_law_646 : decode cL_law 646 = .ok (.invokevirtual 107, 3) := dk_182 0 107 (dk_at dksL_law_25 18 rfl rfl)
theorem dL_law_649 : decode cL_law 649 = .ok (.istore 6, 2) := dk_54 6 (dk_at dksL_law_25 21 rfl rfl)
theorem dL_law_651 : decode cL_law 651 = .ok (.aload_n 2, 1) := dk_44 (dk_at dksL_law_25 23 rfl rfl)
theorem dL_law_652 : decode cL_law 652 = .ok (.invokevirtual 73, 3) := dk_182 0 73 (dk_at dksL_law_26 0 rfl rfl)
theorem dL_law_655 : decode cL_law 655 = .ok (.iload 5, 2) := dk_21 5 (dk_at dksL_law_26 3 rfl rfl)
theorem dL_law_657 : decode cL_law 657 = .ok (.if_icmp .eq 5, 3) := dk_159 0 5 (dk_at dksL_law_26 5 rfl rfl)
theorem dL_law_660 : decode cL_law 660 = .ok (.iconst 0, 1) := dk_3 (dk_at dksL_law_26 8 rfl rfl)
theorem dL_law_661 : decode cL_law 661 = .ok (.ireturn, 1) := dk_172 (dk_at dksL_law_26 9 rfl rfl)
theorem dL_law_662 : decode cL_law 662 = .ok (.iload 5, 2) := dk_21 5 (dk_at dksL_law_26 10 rfl rfl)
theorem dL_law_664 : decode cL_law 664 = .ok (.ifCond .ne 15, 3) := dk_154 0 15 (dk_at dksL_law_26 12 rfl rfl)
theorem dL_law_667 : decode cL_law 667 = .ok (.aload_n 3, 1) := dk_45 (dk_at dksL_law_26 15 rfl rfl)
theorem dL_law_668 : decode cL_law 668 = .ok (.iconst 0, 1) := dk_3 (dk_at dksL_law_26 16 rfl rfl)
theorem dL_law_669 : decode cL_law 669 = .ok (.laload, 1) := dk_47 (dk_at dksL_law_26 17 rfl rfl)
theorem dL_law_670 : decode cL_law 670 = .ok (.iload 6, 2) := dk_21 6 (dk_at dksL_law_26 18 rfl rfl)
theorem dL_law_672 : decode cL_law 672 = .ok (.i2l, 1) := dk_133 (dk_at dksL_law_26 20 rfl rfl)
theorem dL_law_673 : decode cL_law 673 = .ok (.lcmp, 1) := dk_148 (dk_at dksL_law_26 21 rfl rfl)
theorem dL_law_674 : decode cL_law 674 = .ok (.ifCond .eq 5, 3) := dk_153 0 5 (dk_at dksL_law_27 0 rfl rfl)
theorem dL_law_677 : decode cL_law 677 = .ok (.iconst 0, 1) := dk_3 (dk_at dksL_law_27 3 rfl rfl)
theorem dL_law_678 : decode cL_law 678 = .ok (.ireturn, 1) := dk_172 (dk_at dksL_law_27 4 rfl rfl)
theorem dL_law_679 : decode cL_law 679 = .ok (.goto 319, 3) := dk_167 1 63 (dk_at dksL_law_27 5 rfl rfl)
theorem dL_law_682 : decode cL_law 682 = .ok (.aload_n 1, 1) := dk_43 (dk_at dksL_law_27 8 rfl rfl)
theorem dL_law_683 : decode cL_law 683 = .ok (.aload_n 0, 1) := dk_42 (dk_at dksL_law_27 9 rfl rfl)
theorem dL_law_684 : decode cL_law 684 = .ok (.iload 4, 2) := dk_21 4 (dk_at dksL_law_27 10 rfl rfl)
theorem dL_law_686 : decode cL_law 686 = .ok (.iconst 1, 1) := dk_4 (dk_at dksL_law_27 12 rfl rfl)
theorem dL_law_687 : decode cL_law 687 = .ok (.iadd, 1) := dk_96 (dk_at dksL_law_27 13 rfl rfl)
theorem dL_law_688 : decode cL_law 688 = .ok (.iaload, 1) := dk_46 (dk_at dksL_law_27 14 rfl rfl)
theorem dL_law_689 : decode cL_law 689 = .ok (.aload_n 0, 1) := dk_42 (dk_at dksL_law_27 15 rfl rfl)
theorem dL_law_690 : decode cL_law 690 = .ok (.iload 4, 2) := dk_21 4 (dk_at dksL_law_27 16 rfl rfl)
theorem dL_law_692 : decode cL_law 692 = .ok (.iconst 2, 1) := dk_5 (dk_at dksL_law_27 18 rfl rfl)
theorem dL_law_693 : decode cL_law 693 = .ok (.iadd, 1) := dk_96 (dk_at dksL_law_27 19 rfl rfl)
theorem dL_law_694 : decode cL_law 694 = .ok (.iaload, 1) := dk_46 (dk_at dksL_law_27 20 rfl rfl)
theorem dL_law_695 : decode cL_law 695 = .ok (.aload_n 3, 1) := dk_45 (dk_at dksL_law_27 21 rfl rfl)
theorem dL_law_696 : decode cL_law 696 = .ok (.invokestatic 108, 3) := dk_184 0 108 (dk_at dksL_law_28 0 rfl rfl)
theorem dL_law_699 : decode cL_law 699 = .ok (.istore 5, 2) := dk_54 5 (dk_at dksL_law_28 3 rfl rfl)
theorem dL_law_701 : decode cL_law 701 = .ok (.aload_n 2, 1) := dk_44 (dk_at dksL_law_28 5 rfl rfl)
theorem dL_law_702 : decode cL_law 702 = .ok (.aload_n 0, 1) := dk_42 (dk_at dksL_law_28 6 rfl rfl)
theorem dL_law_703 : decode cL_law 703 = .ok (.iload 4, 2) := dk_21 4 (dk_at dksL_law_28 7 rfl rfl)
theorem dL_law_705 : decode cL_law 705 = .ok (.iconst 1, 1) := dk_4 (dk_at dksL_law_28 9 rfl rfl)
theorem dL_law_706 : decode cL_law 706 = .ok (.iadd, 1) := dk_96 (dk_at dksL_law_28 10 rfl rfl)
theorem dL_law_707 : decode cL_law 707 = .ok (.iaload, 1) := dk_46 (dk_at dksL_law_28 11 rfl rfl)
theorem dL_law_708 : decode cL_law 708 = .ok (.aload_n 0, 1) := dk_42 (dk_at dksL_law_28 12 rfl rfl)
theorem dL_law_709 : decode cL_law 709 = .ok (.iload 4, 2) := dk_21 4 (dk_at dksL_law_28 13 rfl rfl)
theorem dL_law_711 : decode cL_law 711 = .ok (.iconst 2, 1) := dk_5 (dk_at dksL_law_28 15 rfl rfl)
theorem dL_law_712 : decode cL_law 712 = .ok (.iadd, 1) := dk_96 (dk_at dksL_law_28 16 rfl rfl)
theorem dL_law_713 : decode cL_law 713 = .ok (.iaload, 1) := dk_46 (dk_at dksL_law_28 17 rfl rfl)
theorem dL_law_714 : decode cL_law 714 = .ok (.invokevirtual 110, 3) := dk_182 0 110 (dk_at dksL_law_28 18 rfl rfl)
theorem dL_law_717 : decode cL_law 717 = .ok (.istore 6, 2) := dk_54 6 (dk_at dksL_law_28 21 rfl rfl)
theorem dL_law_719 : decode cL_law 719 = .ok (.aload_n 2, 1) := dk_44 (dk_at dksL_law_28 23 rfl rfl)
theorem dL_law_720 : decode cL_law 720 = .ok (.invokevirtual 73, 3) := dk_182 0 73 (dk_at dksL_law_29 0 rfl rfl)
theorem dL_law_723 : decode cL_law 723 = .ok (.iload 5, 2) := dk_21 5 (dk_at dksL_law_29 3 rfl rfl)
theorem dL_law_725 : decode cL_law 725 = .ok (.if_icmp .eq 5, 3) := dk_159 0 5 (dk_at dksL_law_29 5 rfl rfl)
theorem dL_law_728 : decode cL_law 728 = .ok (.iconst 0, 1) := dk_3 (dk_at dksL_law_29 8 rfl rfl)
theorem dL_law_729 : decode cL_law 729 = .ok (.ireturn, 1) := dk_172 (dk_at dksL_law_29 9 rfl rfl)
theorem dL_law_730 : decode cL_law 730 = .ok (.iload 5, 2) := dk_21 5 (dk_at dksL_law_29 10 rfl rfl)
theorem dL_law_732 : decode cL_law 732 = .ok (.ifCond .ne 15, 3) := dk_154 0 15 (dk_at dksL_law_29 12 rfl rfl)
theorem dL_law_735 : decode cL_law 735 = .ok (.aload_n 3, 1) := dk_45 (dk_at dksL_law_29 15 rfl rfl)
theorem dL_law_736 : decode cL_law 736 = .ok (.iconst 0, 1) := dk_3 (dk_at dksL_law_29 16 rfl rfl)
theorem dL_law_737 : decode cL_law 737 = .ok (.laload, 1) := dk_47 (dk_at dksL_law_29 17 rfl rfl)
theorem dL_law_738 : decode cL_law 738 = .ok (.iload 6, 2) := dk_21 6 (dk_at dksL_law_29 18 rfl rfl)
theorem dL_law_740 : decode cL_law 740 = .ok (.i2l, 1) := dk_133 (dk_at dksL_law_29 20 rfl rfl)
theorem dL_law_741 : decode cL_law 741 = .ok (.lcmp, 1) := dk_148 (dk_at dksL_law_29 21 rfl rfl)
theorem dL_law_742 : decode cL_law 742 = .ok (.ifCond .eq 5, 3) := dk_153 0 5 (dk_at dksL_law_30 0 rfl rfl)
theorem dL_law_745 : decode cL_law 745 = .ok (.iconst 0, 1) := dk_3 (dk_at dksL_law_30 3 rfl rfl)
theorem dL_law_746 : decode cL_law 746 = .ok (.ireturn, 1) := dk_172 (dk_at dksL_law_30 4 rfl rfl)
theorem dL_law_747 : decode cL_law 747 = .ok (.goto 251, 3) := dk_167 0 251 (dk_at dksL_law_30 5 rfl rfl)
theorem dL_law_750 : decode cL_law 750 = .ok (.aload_n 1, 1) := dk_43 (dk_at dksL_law_30 8 rfl rfl)
theorem dL_law_751 : decode cL_law 751 = .ok (.aload_n 0, 1) := dk_42 (dk_at dksL_law_30 9 rfl rfl)
theorem dL_law_752 : decode cL_law 752 = .ok (.iload 4, 2) := dk_21 4 (dk_at dksL_law_30 10 rfl rfl)
theorem dL_law_754 : decode cL_law 754 = .ok (.iconst 1, 1) := dk_4 (dk_at dksL_law_30 12 rfl rfl)
theorem dL_law_755 : decode cL_law 755 = .ok (.iadd, 1) := dk_96 (dk_at dksL_law_30 13 rfl rfl)
theorem dL_law_756 : decode cL_law 756 = .ok (.iaload, 1) := dk_46 (dk_at dksL_law_30 14 rfl rfl)
theorem dL_law_757 : decode cL_law 757 = .ok (.aload_n 3, 1) := dk_45 (dk_at dksL_law_30 15 rfl rfl)
theorem dL_law_758 : decode cL_law 758 = .ok (.invokestatic 111, 3) := dk_184 0 111 (dk_at dksL_law_30 16 rfl rfl)
theorem dL_law_761 : decode cL_law 761 = .ok (.istore 5, 2) := dk_54 5 (dk_at dksL_law_30 19 rfl rfl)
theorem dL_law_763 : decode cL_law 763 = .ok (.aload_n 2, 1) := dk_44 (dk_at dksL_law_30 21 rfl rfl)
theorem dL_law_764 : decode cL_law 764 = .ok (.aload_n 0, 1) := dk_42 (dk_at dksL_law_30 22 rfl rfl)
theorem dL_law_765 : decode cL_law 765 = .ok (.iload 4, 2) := dk_21 4 (dk_at dksL_law_31 0 rfl rfl)
theorem dL_law_767 : decode cL_law 767 = .ok (.iconst 1, 1) := dk_4 (dk_at dksL_law_31 2 rfl rfl)
theorem dL_law_768 : decode cL_law 768 = .ok (.iadd, 1) := dk_96 (dk_at dksL_law_31 3 rfl rfl)
theorem dL_law_769 : decode cL_law 769 = .ok (.iaload, 1) := dk_46 (dk_at dksL_law_31 4 rfl rfl)
theorem dL_law_770 : decode cL_law 770 = .ok (.invokevirtual 113, 3) := dk_182 0 113 (dk_at dksL_law_31 5 rfl rfl)
theorem dL_law_773 : decode cL_law 773 = .ok (.lstore 6, 2) := dk_55 6 (dk_at dksL_law_31 8 rfl rfl)
theorem dL_law_775 : decode cL_law 775 = .ok (.aload_n 2, 1) := dk_44 (dk_at dksL_law_31 10 rfl rfl)
theorem dL_law_776 : decode cL_law 776 = .ok (.invokevirtual 73, 3) := dk_182 0 73 (dk_at dksL_law_31 11 rfl rfl)
theorem dL_law_779 : decode cL_law 779 = .ok (.iload 5, 2) := dk_21 5 (dk_at dksL_law_31 14 rfl rfl)
theorem dL_law_781 : decode cL_law 781 = .ok (.if_icmp .eq 5, 3) := dk_159 0 5 (dk_at dksL_law_31 16 rfl rfl)
theorem dL_law_784 : decode cL_law 784 = .ok (.iconst 0, 1) := dk_3 (dk_at dksL_law_31 19 rfl rfl)
theorem dL_law_785 : decode cL_law 785 = .ok (.ireturn, 1) := dk_172 (dk_at dksL_law_31 20 rfl rfl)
theorem dL_law_786 : decode cL_law 786 = .ok (.iload 5, 2) := dk_21 5 (dk_at dksL_law_31 21 rfl rfl)
theorem dL_law_788 : decode cL_law 788 = .ok (.ifCond .ne 14, 3) := dk_154 0 14 (dk_at dksL_law_32 0 rfl rfl)
theorem dL_law_791 : decode cL_law 791 = .ok (.aload_n 3, 1) := dk_45 (dk_at dksL_law_32 3 rfl rfl)
theorem dL_law_792 : decode cL_law 792 = .ok (.iconst 0, 1) := dk_3 (dk_at dksL_law_32 4 rfl rfl)
theorem dL_law_793 : decode cL_law 793 = .ok (.laload, 1) := dk_47 (dk_at dksL_law_32 5 rfl rfl)
theorem dL_law_794 : decode cL_law 794 = .ok (.lload 6, 2) := dk_22 6 (dk_at dksL_law_32 6 rfl rfl)
theorem dL_law_796 : decode cL_law 796 = .ok (.lcmp, 1) := dk_148 (dk_at dksL_law_32 8 rfl rfl)
theorem dL_law_797 : decode cL_law 797 = .ok (.ifCond .eq 5, 3) := dk_153 0 5 (dk_at dksL_law_32 9 rfl rfl)
theorem dL_law_800 : decode cL_law 800 = .ok (.iconst 0, 1) := dk_3 (dk_at dksL_law_32 12 rfl rfl)
theorem dL_law_801 : decode cL_law 801 = .ok (.ireturn, 1) := dk_172 (dk_at dksL_law_32 13 rfl rfl)
theorem dL_law_802 : decode cL_law 802 = .ok (.goto 196, 3) := dk_167 0 196 (dk_at dksL_law_32 14 rfl rfl)
theorem dL_law_805 : decode cL_law 805 = .ok (.aload_n 1, 1) := dk_43 (dk_at dksL_law_32 17 rfl rfl)
theorem dL_law_806 : decode cL_law 806 = .ok (.aload_n 3, 1) := dk_45 (dk_at dksL_law_32 18 rfl rfl)
theorem dL_law_807 : decode cL_law 807 = .ok (.invokestatic 114, 3) := dk_184 0 114 (dk_at dksL_law_32 19 rfl rfl)
theorem dL_law_810 : decode cL_law 810 = .ok (.istore 5, 2) := dk_54 5 (dk_at dksL_law_32 22 rfl rfl)
theorem dL_law_812 : decode cL_law 812 = .ok (.aload_n 2, 1) := dk_44 (dk_at dksL_law_33 0 rfl rfl)
theorem dL_law_813 : decode cL_law 813 = .ok (.invokevirtual 116, 3) := dk_182 0 116 (dk_at dksL_law_33 1 rfl rfl)
theorem dL_law_816 : decode cL_law 816 = .ok (.istore 6, 2) := dk_54 6 (dk_at dksL_law_33 4 rfl rfl)
theorem dL_law_818 : decode cL_law 818 = .ok (.aload_n 2, 1) := dk_44 (dk_at dksL_law_33 6 rfl rfl)
theorem dL_law_819 : decode cL_law 819 = .ok (.invokevirtual 73, 3) := dk_182 0 73 (dk_at dksL_law_33 7 rfl rfl)
theorem dL_law_822 : decode cL_law 822 = .ok (.iload 5, 2) := dk_21 5 (dk_at dksL_law_33 10 rfl rfl)
theorem dL_law_824 : decode cL_law 824 = .ok (.if_icmp .eq 5, 3) := dk_159 0 5 (dk_at dksL_law_33 12 rfl rfl)
theorem dL_law_827 : decode cL_law 827 = .ok (.iconst 0, 1) := dk_3 (dk_at dksL_law_33 15 rfl rfl)
theorem dL_law_828 : decode cL_law 828 = .ok (.ireturn, 1) := dk_172 (dk_at dksL_law_33 16 rfl rfl)
theorem dL_law_829 : decode cL_law 829 = .ok (.iload 5, 2) := dk_21 5 (dk_at dksL_law_33 17 rfl rfl)
theorem dL_law_831 : decode cL_law 831 = .ok (.ifCond .ne 15, 3) := dk_154 0 15 (dk_at dksL_law_33 19 rfl rfl)
theorem dL_law_834 : decode cL_law 834 = .ok (.aload_n 3, 1) := dk_45 (dk_at dksL_law_33 22 rfl rfl)
theorem dL_law_835 : decode cL_law 835 = .ok (.iconst 0, 1) := dk_3 (dk_at dksL_law_33 23 rfl rfl)
theorem dL_law_836 : decode cL_law 836 = .ok (.laload, 1) := dk_47 (dk_at dksL_law_34 0 rfl rfl)
theorem dL_law_837 : decode cL_law 837 = .ok (.iload 6, 2) := dk_21 6 (dk_at dksL_law_34 1 rfl rfl)
theorem dL_law_839 : decode cL_law 839 = .ok (.i2l, 1) := dk_133 (dk_at dksL_law_34 3 rfl rfl)
theorem dL_law_840 : decode cL_law 840 = .ok (.lcmp, 1) := dk_148 (dk_at dksL_law_34 4 rfl rfl)
theorem dL_law_841 : decode cL_law 841 = .ok (.ifCond .eq 5, 3) := dk_153 0 5 (dk_at dksL_law_34 5 rfl rfl)
theorem dL_law_844 : decode cL_law 844 = .ok (.iconst 0, 1) := dk_3 (dk_at dksL_law_34 8 rfl rfl)
theorem dL_law_845 : decode cL_law 845 = .ok (.ireturn, 1) := dk_172 (dk_at dksL_law_34 9 rfl rfl)
theorem dL_law_846 : decode cL_law 846 = .ok (.goto 152, 3) := dk_167 0 152 (dk_at dksL_law_34 10 rfl rfl)
theorem dL_law_849 : decode cL_law 849 = .ok (.aload_n 1, 1) := dk_43 (dk_at dksL_law_34 13 rfl rfl)
theorem dL_law_850 : decode cL_law 850 = .ok (.aload_n 0, 1) := dk_42 (dk_at dksL_law_34 14 rfl rfl)
theorem dL_law_851 : decode cL_law 851 = .ok (.iload 4, 2) := dk_21 4 (dk_at dksL_law_34 15 rfl rfl)
theorem dL_law_853 : decode cL_law 853 = .ok (.iconst 1, 1) := dk_4 (dk_at dksL_law_34 17 rfl rfl)
theorem dL_law_854 : decode cL_law 854 = .ok (.iadd, 1) := dk_96 (dk_at dksL_law_34 18 rfl rfl)
theorem dL_law_855 : decode cL_law 855 = .ok (.iaload, 1) := dk_46 (dk_at dksL_law_34 19 rfl rfl)
theorem dL_law_856 : decode cL_law 856 = .ok (.aload_n 0, 1) := dk_42 (dk_at dksL_law_34 20 rfl rfl)
theorem dL_law_857 : decode cL_law 857 = .ok (.iload 4, 2) := dk_21 4 (dk_at dksL_law_34 21 rfl rfl)
theorem dL_law_859 : decode cL_law 859 = .ok (.iconst 2, 1) := dk_5 (dk_at dksL_law_34 23 rfl rfl)
theorem dL_law_860 : decode cL_law 860 = .ok (.iadd, 1) := dk_96 (dk_at dksL_law_35 0 rfl rfl)
theorem dL_law_861 : decode cL_law 861 = .ok (.iaload, 1) := dk_46 (dk_at dksL_law_35 1 rfl rfl)
theorem dL_law_862 : decode cL_law 862 = .ok (.aload_n 3, 1) := dk_45 (dk_at dksL_law_35 2 rfl rfl)
theorem dL_law_863 : decode cL_law 863 = .ok (.invokestatic 117, 3) := dk_184 0 117 (dk_at dksL_law_35 3 rfl rfl)
theorem dL_law_866 : decode cL_law 866 = .ok (.istore 5, 2) := dk_54 5 (dk_at dksL_law_35 6 rfl rfl)
theorem dL_law_868 : decode cL_law 868 = .ok (.aload_n 2, 1) := dk_44 (dk_at dksL_law_35 8 rfl rfl)
theorem dL_law_869 : decode cL_law 869 = .ok (.aload_n 0, 1) := dk_42 (dk_at dksL_law_35 9 rfl rfl)
theorem dL_law_870 : decode cL_law 870 = .ok (.iload 4, 2) := dk_21 4 (dk_at dksL_law_35 10 rfl rfl)
theorem dL_law_872 : decode cL_law 872 = .ok (.iconst 1, 1) := dk_4 (dk_at dksL_law_35 12 rfl rfl)
theorem dL_law_873 : decode cL_law 873 = .ok (.iadd, 1) := dk_96 (dk_at dksL_law_35 13 rfl rfl)
theorem dL_law_874 : decode cL_law 874 = .ok (.iaload, 1) := dk_46 (dk_at dksL_law_35 14 rfl rfl)
theorem dL_law_875 : decode cL_law 875 = .ok (.aload_n 0, 1) := dk_42 (dk_at dksL_law_35 15 rfl rfl)
theorem dL_law_876 : decode cL_law 876 = .ok (.iload 4, 2) := dk_21 4 (dk_at dksL_law_35 16 rfl rfl)
theorem dL_law_878 : decode cL_law 878 = .ok (.iconst 2, 1) := dk_5 (dk_at dksL_law_35 18 rfl rfl)
theorem dL_law_879 : decode cL_law 879 = .ok (.iadd, 1) := dk_96 (dk_at dksL_law_35 19 rfl rfl)
theorem dL_law_880 : decode cL_law 880 = .ok (.iaload, 1) := dk_46 (dk_at dksL_law_35 20 rfl rfl)
theorem dL_law_881 : decode cL_law 881 = .ok (.invokevirtual 119, 3) := dk_182 0 119 (dk_at dksL_law_35 21 rfl rfl)
theorem dL_law_884 : decode cL_law 884 = .ok (.istore 6, 2) := dk_54 6 (dk_at dksL_law_36 0 rfl rfl)
theorem dL_law_886 : decode cL_law 886 = .ok (.aload_n 2, 1) := dk_44 (dk_at dksL_law_36 2 rfl rfl)
theorem dL_law_887 : decode cL_law 887 = .ok (.invokevirtual 73, 3) := dk_182 0 73 (dk_at dksL_law_36 3 rfl rfl)
theorem dL_law_890 : decode cL_law 890 = .ok (.iload 5, 2) := dk_21 5 (dk_at dksL_law_36 6 rfl rfl)
theorem dL_law_892 : decode cL_law 892 = .ok (.if_icmp .eq 5, 3) := dk_159 0 5 (dk_at dksL_law_36 8 rfl rfl)
theorem dL_law_895 : decode cL_law 895 = .ok (.iconst 0, 1) := dk_3 (dk_at dksL_law_36 11 rfl rfl)
theorem dL_law_896 : decode cL_law 896 = .ok (.ireturn, 1) := dk_172 (dk_at dksL_law_36 12 rfl rfl)
theorem dL_law_897 : decode cL_law 897 = .ok (.iload 5, 2) := dk_21 5 (dk_at dksL_law_36 13 rfl rfl)
theorem dL_law_899 : decode cL_law 899 = .ok (.ifCond .ne 15, 3) := dk_154 0 15 (dk_at dksL_law_36 15 rfl rfl)
theorem dL_law_902 : decode cL_law 902 = .ok (.aload_n 3, 1) := dk_45 (dk_at dksL_law_36 18 rfl rfl)
theorem dL_law_903 : decode cL_law 903 = .ok (.iconst 0, 1) := dk_3 (dk_at dksL_law_36 19 rfl rfl)
theorem dL_law_904 : decode cL_law 904 = .ok (.laload, 1) := dk_47 (dk_at dksL_law_36 20 rfl rfl)
theorem dL_law_905 : decode cL_law 905 = .ok (.iload 6, 2) := dk_21 6 (dk_at dksL_law_36 21 rfl rfl)
theorem dL_law_907 : decode cL_law 907 = .ok (.i2l, 1) := dk_133 (dk_at dksL_law_36 23 rfl rfl)
theorem dL_law_908 : decode cL_law 908 = .ok (.lcmp, 1) := dk_148 (dk_at dksL_law_37 0 rfl rfl)
theorem dL_law_909 : decode cL_law 909 = .ok (.ifCond .eq 5, 3) := dk_153 0 5 (dk_at dksL_law_37 1 rfl rfl)
theorem dL_law_912 : decode cL_law 912 = .ok (.iconst 0, 1) := dk_3 (dk_at dksL_law_37 4 rfl rfl)
theorem dL_law_913 : decode cL_law 913 = .ok (.ireturn, 1) := dk_172 (dk_at dksL_law_37 5 rfl rfl)
theorem dL_law_914 : decode cL_law 914 = .ok (.goto 84, 3) := dk_167 0 84 (dk_at dksL_law_37 6 rfl rfl)
theorem dL_law_917 : decode cL_law 917 = .ok (.aload_n 1, 1) := dk_43 (dk_at dksL_law_37 9 rfl rfl)
theorem dL_law_918 : decode cL_law 918 = .ok (.aload_n 0, 1) := dk_42 (dk_at dksL_law_37 10 rfl rfl)
theorem dL_law_919 : decode cL_law 919 = .ok (.iload 4, 2) := dk_21 4 (dk_at dksL_law_37 11 rfl rfl)
theorem dL_law_921 : decode cL_law 921 = .ok (.iconst 1, 1) := dk_4 (dk_at dksL_law_37 13 rfl rfl)
theorem dL_law_922 : decode cL_law 922 = .ok (.iadd, 1) := dk_96 (dk_at dksL_law_37 14 rfl rfl)
theorem dL_law_923 : decode cL_law 923 = .ok (.iaload, 1) := dk_46 (dk_at dksL_law_37 15 rfl rfl)
theorem dL_law_924 : decode cL_law 924 = .ok (.aload_n 0, 1) := dk_42 (dk_at dksL_law_37 16 rfl rfl)
theorem dL_law_925 : decode cL_law 925 = .ok (.iload 4, 2) := dk_21 4 (dk_at dksL_law_37 17 rfl rfl)
theorem dL_law_927 : decode cL_law 927 = .ok (.iconst 2, 1) := dk_5 (dk_at dksL_law_37 19 rfl rfl)
theorem dL_law_928 : decode cL_law 928 = .ok (.iadd, 1) := dk_96 (dk_at dksL_law_37 20 rfl rfl)
theorem dL_law_929 : decode cL_law 929 = .ok (.iaload, 1) := dk_46 (dk_at dksL_law_37 21 rfl rfl)
theorem dL_law_930 : decode cL_law 930 = .ok (.aload_n 3, 1) := dk_45 (dk_at dksL_law_37 22 rfl rfl)
theorem dL_law_931 : decode cL_law 931 = .ok (.invokestatic 120, 3) := dk_184 0 120 (dk_at dksL_law_38 0 rfl rfl)
theorem dL_law_934 : decode cL_law 934 = .ok (.istore 5, 2) := dk_54 5 (dk_at dksL_law_38 3 rfl rfl)
theorem dL_law_936 : decode cL_law 936 = .ok (.aload_n 2, 1) := dk_44 (dk_at dksL_law_38 5 rfl rfl)
theorem dL_law_937 : decode cL_law 937 = .ok (.aload_n 0, 1) := dk_42 (dk_at dksL_law_38 6 rfl rfl)
theorem dL_law_938 : decode cL_law 938 = .ok (.iload 4, 2) := dk_21 4 (dk_at dksL_law_38 7 rfl rfl)
theorem dL_law_940 : decode cL_law 940 = .ok (.iconst 1, 1) := dk_4 (dk_at dksL_law_38 9 rfl rfl)
theorem dL_law_941 : decode cL_law 941 = .ok (.iadd, 1) := dk_96 (dk_at dksL_law_38 10 rfl rfl)
theorem dL_law_942 : decode cL_law 942 = .ok (.iaload, 1) := dk_46 (dk_at dksL_law_38 11 rfl rfl)
theorem dL_law_943 : decode cL_law 943 = .ok (.aload_n 0, 1) := dk_42 (dk_at dksL_law_38 12 rfl rfl)
theorem dL_law_944 : decode cL_law 944 = .ok (.iload 4, 2) := dk_21 4 (dk_at dksL_law_38 13 rfl rfl)
theorem dL_law_946 : decode cL_law 946 = .ok (.iconst 2, 1) := dk_5 (dk_at dksL_law_38 15 rfl rfl)
theorem dL_law_947 : decode cL_law 947 = .ok (.iadd, 1) := dk_96 (dk_at dksL_law_38 16 rfl rfl)
theorem dL_law_948 : decode cL_law 948 = .ok (.iaload, 1) := dk_46 (dk_at dksL_law_38 17 rfl rfl)
theorem dL_law_949 : decode cL_law 949 = .ok (.invokevirtual 122, 3) := dk_182 0 122 (dk_at dksL_law_38 18 rfl rfl)
theorem dL_law_952 : decode cL_law 952 = .ok (.istore 6, 2) := dk_54 6 (dk_at dksL_law_38 21 rfl rfl)
theorem dL_law_954 : decode cL_law 954 = .ok (.aload_n 2, 1) := dk_44 (dk_at dksL_law_38 23 rfl rfl)
theorem dL_law_955 : decode cL_law 955 = .ok (.invokevirtual 73, 3) := dk_182 0 73 (dk_at dksL_law_39 0 rfl rfl)
theorem dL_law_958 : decode cL_law 958 = .ok (.iload 5, 2) := dk_21 5 (dk_at dksL_law_39 3 rfl rfl)
theorem dL_law_960 : decode cL_law 960 = .ok (.if_icmp .eq 5, 3) := dk_159 0 5 (dk_at dksL_law_39 5 rfl rfl)
theorem dL_law_963 : decode cL_law 963 = .ok (.iconst 0, 1) := dk_3 (dk_at dksL_law_39 8 rfl rfl)
theorem dL_law_964 : decode cL_law 964 = .ok (.ireturn, 1) := dk_172 (dk_at dksL_law_39 9 rfl rfl)
theorem dL_law_965 : decode cL_law 965 = .ok (.iload 5, 2) := dk_21 5 (dk_at dksL_law_39 10 rfl rfl)
theorem dL_law_967 : decode cL_law 967 = .ok (.ifCond .ne 15, 3) := dk_154 0 15 (dk_at dksL_law_39 12 rfl rfl)
theorem dL_law_970 : decode cL_law 970 = .ok (.aload_n 3, 1) := dk_45 (dk_at dksL_law_39 15 rfl rfl)
theorem dL_law_971 : decode cL_law 971 = .ok (.iconst 0, 1) := dk_3 (dk_at dksL_law_39 16 rfl rfl)
theorem dL_law_972 : decode cL_law 972 = .ok (.laload, 1) := dk_47 (dk_at dksL_law_39 17 rfl rfl)
theorem dL_law_973 : decode cL_law 973 = .ok (.iload 6, 2) := dk_21 6 (dk_at dksL_law_39 18 rfl rfl)
theorem dL_law_975 : decode cL_law 975 = .ok (.i2l, 1) := dk_133 (dk_at dksL_law_39 20 rfl rfl)
theorem dL_law_976 : decode cL_law 976 = .ok (.lcmp, 1) := dk_148 (dk_at dksL_law_39 21 rfl rfl)
theorem dL_law_977 : decode cL_law 977 = .ok (.ifCond .eq 5, 3) := dk_153 0 5 (dk_at dksL_law_40 0 rfl rfl)
theorem dL_law_980 : decode cL_law 980 = .ok (.iconst 0, 1) := dk_3 (dk_at dksL_law_40 3 rfl rfl)
theorem dL_law_981 : decode cL_law 981 = .ok (.ireturn, 1) := dk_172 (dk_at dksL_law_40 4 rfl rfl)
theorem dL_law_982 : decode cL_law 982 = .ok (.goto 16, 3) := dk_167 0 16 (dk_at dksL_law_40 5 rfl rfl)
theorem dL_law_985 : decode cL_law 985 = .ok (.aload_n 1, 1) := dk_43 (dk_at dksL_law_40 8 rfl rfl)
theorem dL_law_986 : decode cL_law 986 = .ok (.invokevirtual 123, 3) := dk_182 0 123 (dk_at dksL_law_40 9 rfl rfl)
theorem dL_law_989 : decode cL_law 989 = .ok (.aload_n 2, 1) := dk_44 (dk_at dksL_law_40 12 rfl rfl)
theorem dL_law_990 : decode cL_law 990 = .ok (.invokevirtual 126, 3) := dk_182 0 126 (dk_at dksL_law_40 13 rfl rfl)
theorem dL_law_993 : decode cL_law 993 = .ok (.if_icmp .eq 5, 3) := dk_159 0 5 (dk_at dksL_law_40 16 rfl rfl)
theorem dL_law_996 : decode cL_law 996 = .ok (.iconst 0, 1) := dk_3 (dk_at dksL_law_40 19 rfl rfl)
theorem dL_law_997 : decode cL_law 997 = .ok (.ireturn, 1) := dk_172 (dk_at dksL_law_40 20 rfl rfl)
theorem dL_law_998 : decode cL_law 998 = .ok (.iinc 4 3, 3) := dk_132 4 3 (dk_at dksL_law_40 21 rfl rfl)
theorem dL_law_1001 : decode cL_law 1001 = .ok (.goto (-978), 3) := dk_167 252 46 (dk_at dksL_law_41 0 rfl rfl)
theorem dL_law_1004 : decode cL_law 1004 = .ok (.iconst 1, 1) := dk_4 (dk_at dksL_law_41 3 rfl rfl)
theorem dL_law_1005 : decode cL_law 1005 = .ok (.ireturn, 1) := dk_172 (dk_at dksL_law_41 4 rfl rfl)

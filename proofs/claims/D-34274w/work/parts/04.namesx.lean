/-! Trellistag -/
set_option maxRecDepth 100000
def RX1 : String := "Trellistag"
def TX1 : u_T := fun k => match k with
  | 0 => ("Trellistag", "words", "LTrellistag$Words;", true)
  | 1 => ("Trellistag", "endings", "LTrellistag$Endings;", true)
  | 2 => ("Trellistag", "steps", "[[I", true)
  | 3 => ("Trellistag", "firsts", "[I", true)
  | 4 => ("Trellistag", "texts", "Ljava/util/List;", true)
  | 5 => ("Trellistag", "draft", "Ljava/util/List;", false)
  | 6 => ("Trellistag", "sentence", "Ljava/util/List;", true)
  | 7 => ("Trellistag", "locks", "[I", true)
  | _ => ("Trellistag", "typed", "Ljava/lang/String;", false)
def tyX1 : Nat → FieldType := fun k => match k with
  | 0 => .object "Trellistag$Words"
  | 1 => .object "Trellistag$Endings"
  | 2 => .array (.array .int)
  | 3 => .array .int
  | 4 => .object "java/util/List"
  | 5 => .object "java/util/List"
  | 6 => .object "java/util/List"
  | 7 => .array .int
  | _ => .object "java/lang/String"
abbrev wsX10 : List Cond := u_ws RX1 TX1 9
theorem nmX1 : ∀ a, a < 9 → ∀ b, b < 9 → a ≠ b → (TX1 a).2.1 ≠ (TX1 b).2.1 := by decide +kernel
theorem tyX1_ok : ∀ k, k < 9 → parseFieldDescriptor (TX1 k).2.2.1 = some (tyX1 k) := by decide +kernel
abbrev cX1_init : ByteArray := prog_1_method_2_code
def yX1_init : MethodName := ⟨RX1, "<init>", "()V"⟩
def dkwX1_init_3 : List UInt8 := [183, 0, 55, 181, 0, 63, 42, 8, 188, 10, 181, 0, 66, 42, 18, 69, 181, 0, 71, 177]
abbrev dktX1_init_3 : List UInt8 := dkwX1_init_3 ++ []
def dkwX1_init_2 : List UInt8 := [89, 183, 0, 55, 181, 0, 56, 42, 187, 0, 53, 89, 183, 0, 55, 181, 0, 60, 42, 187, 0, 53, 89]
abbrev dktX1_init_2 : List UInt8 := dkwX1_init_2 ++ dktX1_init_3
def dkwX1_init_1 : List UInt8 := [181, 0, 40, 42, 8, 8, 197, 0, 44, 2, 181, 0, 46, 42, 8, 188, 10, 181, 0, 49, 42, 187, 0, 53]
abbrev dktX1_init_1 : List UInt8 := dkwX1_init_1 ++ dktX1_init_2
def dkwX1_init_0 : List UInt8 := [42, 183, 0, 25, 42, 187, 0, 28, 89, 183, 0, 30, 181, 0, 31, 42, 187, 0, 37, 89, 183, 0, 39]
abbrev dktX1_init_0 : List UInt8 := dkwX1_init_0 ++ dktX1_init_1
theorem dksX1_init_0 : cX1_init.data.toList.drop 0 = dktX1_init_0 := by decide +kernel
theorem dksX1_init_1 : cX1_init.data.toList.drop 23 = dktX1_init_1 := dk_seg dksX1_init_0 23 rfl rfl
theorem dksX1_init_2 : cX1_init.data.toList.drop 47 = dktX1_init_2 := dk_seg dksX1_init_1 24 rfl rfl
theorem dksX1_init_3 : cX1_init.data.toList.drop 70 = dktX1_init_3 := dk_seg dksX1_init_2 23 rfl rfl
theorem dX1_init_0 : decode cX1_init 0 = .ok (.aload_n 0, 1) := dk_42 (dk_at dksX1_init_0 0 rfl rfl)
theorem dX1_init_1 : decode cX1_init 1 = .ok (.invokespecial 25, 3) := dk_183 0 25 (dk_at dksX1_init_0 1 rfl rfl)
theorem dX1_init_4 : decode cX1_init 4 = .ok (.aload_n 0, 1) := dk_42 (dk_at dksX1_init_0 4 rfl rfl)
theorem dX1_init_5 : decode cX1_init 5 = .ok (.new 28, 3) := dk_187 0 28 (dk_at dksX1_init_0 5 rfl rfl)
theorem dX1_init_8 : decode cX1_init 8 = .ok (.dup, 1) := dk_89 (dk_at dksX1_init_0 8 rfl rfl)
theorem dX1_init_9 : decode cX1_init 9 = .ok (.invokespecial 30, 3) := dk_183 0 30 (dk_at dksX1_init_0 9 rfl rfl)
theorem dX1_init_12 : decode cX1_init 12 = .ok (.putfield 31, 3) := dk_181 0 31 (dk_at dksX1_init_0 12 rfl rfl)
theorem dX1_init_15 : decode cX1_init 15 = .ok (.aload_n 0, 1) := dk_42 (dk_at dksX1_init_0 15 rfl rfl)
theorem dX1_init_16 : decode cX1_init 16 = .ok (.new 37, 3) := dk_187 0 37 (dk_at dksX1_init_0 16 rfl rfl)
theorem dX1_init_19 : decode cX1_init 19 = .ok (.dup, 1) := dk_89 (dk_at dksX1_init_0 19 rfl rfl)
theorem dX1_init_20 : decode cX1_init 20 = .ok (.invokespecial 39, 3) := dk_183 0 39 (dk_at dksX1_init_0 20 rfl rfl)
theorem dX1_init_23 : decode cX1_init 23 = .ok (.putfield 40, 3) := dk_181 0 40 (dk_at dksX1_init_1 0 rfl rfl)
theorem dX1_init_26 : decode cX1_init 26 = .ok (.aload_n 0, 1) := dk_42 (dk_at dksX1_init_1 3 rfl rfl)
theorem dX1_init_27 : decode cX1_init 27 = .ok (.iconst 5, 1) := dk_8 (dk_at dksX1_init_1 4 rfl rfl)
theorem dX1_init_28 : decode cX1_init 28 = .ok (.iconst 5, 1) := dk_8 (dk_at dksX1_init_1 5 rfl rfl)
theorem dX1_init_29 : decode cX1_init 29 = .ok (.multianewarray 44 2, 4) := by decide +kernel
theorem dX1_init_33 : decode cX1_init 33 = .ok (.putfield 46, 3) := dk_181 0 46 (dk_at dksX1_init_1 10 rfl rfl)
theorem dX1_init_36 : decode cX1_init 36 = .ok (.aload_n 0, 1) := dk_42 (dk_at dksX1_init_1 13 rfl rfl)
theorem dX1_init_37 : decode cX1_init 37 = .ok (.iconst 5, 1) := dk_8 (dk_at dksX1_init_1 14 rfl rfl)
theorem dX1_init_38 : decode cX1_init 38 = .ok (.newarray .int, 2) := dk_188_10 (dk_at dksX1_init_1 15 rfl rfl)
theorem dX1_init_40 : decode cX1_init 40 = .ok (.putfield 49, 3) := dk_181 0 49 (dk_at dksX1_init_1 17 rfl rfl)
theorem dX1_init_43 : decode cX1_init 43 = .ok (.aload_n 0, 1) := dk_42 (dk_at dksX1_init_1 20 rfl rfl)
theorem dX1_init_44 : decode cX1_init 44 = .ok (.new 53, 3) := dk_187 0 53 (dk_at dksX1_init_1 21 rfl rfl)
theorem dX1_init_47 : decode cX1_init 47 = .ok (.dup, 1) := dk_89 (dk_at dksX1_init_2 0 rfl rfl)
theorem dX1_init_48 : decode cX1_init 48 = .ok (.invokespecial 55, 3) := dk_183 0 55 (dk_at dksX1_init_2 1 rfl rfl)
theorem dX1_init_51 : decode cX1_init 51 = .ok (.putfield 56, 3) := dk_181 0 56 (dk_at dksX1_init_2 4 rfl rfl)
theorem dX1_init_54 : decode cX1_init 54 = .ok (.aload_n 0, 1) := dk_42 (dk_at dksX1_init_2 7 rfl rfl)
theorem dX1_init_55 : decode cX1_init 55 = .ok (.new 53, 3) := dk_187 0 53 (dk_at dksX1_init_2 8 rfl rfl)
theorem dX1_init_58 : decode cX1_init 58 = .ok (.dup, 1) := dk_89 (dk_at dksX1_init_2 11 rfl rfl)
theorem dX1_init_59 : decode cX1_init 59 = .ok (.invokespecial 55, 3) := dk_183 0 55 (dk_at dksX1_init_2 12 rfl rfl)
theorem dX1_init_62 : decode cX1_init 62 = .ok (.putfield 60, 3) := dk_181 0 60 (dk_at dksX1_init_2 15 rfl rfl)
theorem dX1_init_65 : decode cX1_init 65 = .ok (.aload_n 0, 1) := dk_42 (dk_at dksX1_init_2 18 rfl rfl)
theorem dX1_init_66 : decode cX1_init 66 = .ok (.new 53, 3) := dk_187 0 53 (dk_at dksX1_init_2 19 rfl rfl)
theorem dX1_init_69 : decode cX1_init 69 = .ok (.dup, 1) := dk_89 (dk_at dksX1_init_2 22 rfl rfl)
theorem dX1_init_70 : decode cX1_init 70 = .ok (.invokespecial 55, 3) := dk_183 0 55 (dk_at dksX1_init_3 0 rfl rfl)
theorem dX1_init_73 : decode cX1_init 73 = .ok (.putfield 63, 3) := dk_181 0 63 (dk_at dksX1_init_3 3 rfl rfl)
theorem dX1_init_76 : decode cX1_init 76 = .ok (.aload_n 0, 1) := dk_42 (dk_at dksX1_init_3 6 rfl rfl)
theorem dX1_init_77 : decode cX1_init 77 = .ok (.iconst 5, 1) := dk_8 (dk_at dksX1_init_3 7 rfl rfl)
theorem dX1_init_78 : decode cX1_init 78 = .ok (.newarray .int, 2) := dk_188_10 (dk_at dksX1_init_3 8 rfl rfl)
theorem dX1_init_80 : decode cX1_init 80 = .ok (.putfield 66, 3) := dk_181 0 66 (dk_at dksX1_init_3 10 rfl rfl)
theorem dX1_init_83 : decode cX1_init 83 = .ok (.aload_n 0, 1) := dk_42 (dk_at dksX1_init_3 13 rfl rfl)
theorem dX1_init_84 : decode cX1_init 84 = .ok (.ldc 69, 2) := dk_18 69 (dk_at dksX1_init_3 14 rfl rfl)
theorem dX1_init_86 : decode cX1_init 86 = .ok (.putfield 71, 3) := dk_181 0 71 (dk_at dksX1_init_3 16 rfl rfl)
theorem dX1_init_89 : decode cX1_init 89 = .ok (.return_, 1) := dk_177 (dk_at dksX1_init_3 19 rfl rfl)
abbrev cX1_clear : ByteArray := prog_1_method_14_code
def yX1_clear : MethodName := ⟨RX1, "clear", "()I"⟩
def dkwX1_clear_2 : List UInt8 := [172]
abbrev dktX1_clear_2 : List UInt8 := dkwX1_clear_2 ++ []
def dkwX1_clear_1 : List UInt8 := [180, 0, 63, 42, 180, 0, 63, 185, 0, 115, 1, 0, 4, 100, 185, 0, 179, 2, 0, 87, 167, 255, 223, 27]
abbrev dktX1_clear_1 : List UInt8 := dkwX1_clear_1 ++ dktX1_clear_2
def dkwX1_clear_0 : List UInt8 := [42, 180, 0, 63, 185, 0, 115, 1, 0, 60, 42, 180, 0, 63, 185, 0, 165, 1, 0, 154, 0, 27, 42]
abbrev dktX1_clear_0 : List UInt8 := dkwX1_clear_0 ++ dktX1_clear_1
theorem dksX1_clear_0 : cX1_clear.data.toList.drop 0 = dktX1_clear_0 := by decide +kernel
theorem dksX1_clear_1 : cX1_clear.data.toList.drop 23 = dktX1_clear_1 := dk_seg dksX1_clear_0 23 rfl rfl
theorem dksX1_clear_2 : cX1_clear.data.toList.drop 47 = dktX1_clear_2 := dk_seg dksX1_clear_1 24 rfl rfl
theorem dX1_clear_0 : decode cX1_clear 0 = .ok (.aload_n 0, 1) := dk_42 (dk_at dksX1_clear_0 0 rfl rfl)
theorem dX1_clear_1 : decode cX1_clear 1 = .ok (.getfield 63, 3) := dk_180 0 63 (dk_at dksX1_clear_0 1 rfl rfl)
theorem dX1_clear_4 : decode cX1_clear 4 = .ok (.invokeinterface 115 1, 5) := by decide +kernel
theorem dX1_clear_9 : decode cX1_clear 9 = .ok (.istore_n 1, 1) := dk_60 (dk_at dksX1_clear_0 9 rfl rfl)
theorem dX1_clear_10 : decode cX1_clear 10 = .ok (.aload_n 0, 1) := dk_42 (dk_at dksX1_clear_0 10 rfl rfl)
theorem dX1_clear_11 : decode cX1_clear 11 = .ok (.getfield 63, 3) := dk_180 0 63 (dk_at dksX1_clear_0 11 rfl rfl)
theorem dX1_clear_14 : decode cX1_clear 14 = .ok (.invokeinterface 165 1, 5) := by decide +kernel
theorem dX1_clear_19 : decode cX1_clear 19 = .ok (.ifCond .ne 27, 3) := dk_154 0 27 (dk_at dksX1_clear_0 19 rfl rfl)
theorem dX1_clear_22 : decode cX1_clear 22 = .ok (.aload_n 0, 1) := dk_42 (dk_at dksX1_clear_0 22 rfl rfl)
theorem dX1_clear_23 : decode cX1_clear 23 = .ok (.getfield 63, 3) := dk_180 0 63 (dk_at dksX1_clear_1 0 rfl rfl)
theorem dX1_clear_26 : decode cX1_clear 26 = .ok (.aload_n 0, 1) := dk_42 (dk_at dksX1_clear_1 3 rfl rfl)
theorem dX1_clear_27 : decode cX1_clear 27 = .ok (.getfield 63, 3) := dk_180 0 63 (dk_at dksX1_clear_1 4 rfl rfl)
theorem dX1_clear_30 : decode cX1_clear 30 = .ok (.invokeinterface 115 1, 5) := by decide +kernel
theorem dX1_clear_35 : decode cX1_clear 35 = .ok (.iconst 1, 1) := dk_4 (dk_at dksX1_clear_1 12 rfl rfl)
theorem dX1_clear_36 : decode cX1_clear 36 = .ok (.isub, 1) := dk_100 (dk_at dksX1_clear_1 13 rfl rfl)
theorem dX1_clear_37 : decode cX1_clear 37 = .ok (.invokeinterface 179 2, 5) := by decide +kernel
theorem dX1_clear_42 : decode cX1_clear 42 = .ok (.pop, 1) := dk_87 (dk_at dksX1_clear_1 19 rfl rfl)
theorem dX1_clear_43 : decode cX1_clear 43 = .ok (.goto (-33), 3) := dk_167 255 223 (dk_at dksX1_clear_1 20 rfl rfl)
theorem dX1_clear_46 : decode cX1_clear 46 = .ok (.iload_n 1, 1) := dk_27 (dk_at dksX1_clear_1 23 rfl rfl)
theorem dX1_clear_47 : decode cX1_clear 47 = .ok (.ireturn, 1) := dk_172 (dk_at dksX1_clear_2 0 rfl rfl)
abbrev cX1_texts : ByteArray := prog_1_method_25_code
def yX1_texts : MethodName := ⟨RX1, "texts", "()I"⟩
def dkwX1_texts_2 : List UInt8 := [167, 255, 222, 27, 172]
abbrev dktX1_texts_2 : List UInt8 := dkwX1_texts_2 ++ []
def dkwX1_texts_1 : List UInt8 := [185, 0, 146, 1, 0, 192, 0, 133, 78, 27, 45, 180, 0, 161, 153, 0, 7, 4, 167, 0, 4, 3, 96, 60]
abbrev dktX1_texts_1 : List UInt8 := dkwX1_texts_1 ++ dktX1_texts_2
def dkwX1_texts_0 : List UInt8 := [3, 60, 42, 180, 0, 56, 185, 0, 136, 1, 0, 77, 44, 185, 0, 140, 1, 0, 153, 0, 31, 44]
abbrev dktX1_texts_0 : List UInt8 := dkwX1_texts_0 ++ dktX1_texts_1
theorem dksX1_texts_0 : cX1_texts.data.toList.drop 0 = dktX1_texts_0 := by decide +kernel
theorem dksX1_texts_1 : cX1_texts.data.toList.drop 22 = dktX1_texts_1 := dk_seg dksX1_texts_0 22 rfl rfl
theorem dksX1_texts_2 : cX1_texts.data.toList.drop 46 = dktX1_texts_2 := dk_seg dksX1_texts_1 24 rfl rfl
theorem dX1_texts_0 : decode cX1_texts 0 = .ok (.iconst 0, 1) := dk_3 (dk_at dksX1_texts_0 0 rfl rfl)
theorem dX1_texts_1 : decode cX1_texts 1 = .ok (.istore_n 1, 1) := dk_60 (dk_at dksX1_texts_0 1 rfl rfl)
theorem dX1_texts_2 : decode cX1_texts 2 = .ok (.aload_n 0, 1) := dk_42 (dk_at dksX1_texts_0 2 rfl rfl)
theorem dX1_texts_3 : decode cX1_texts 3 = .ok (.getfield 56, 3) := dk_180 0 56 (dk_at dksX1_texts_0 3 rfl rfl)
theorem dX1_texts_6 : decode cX1_texts 6 = .ok (.invokeinterface 136 1, 5) := by decide +kernel
theorem dX1_texts_11 : decode cX1_texts 11 = .ok (.astore_n 2, 1) := dk_77 (dk_at dksX1_texts_0 11 rfl rfl)
theorem dX1_texts_12 : decode cX1_texts 12 = .ok (.aload_n 2, 1) := dk_44 (dk_at dksX1_texts_0 12 rfl rfl)
theorem dX1_texts_13 : decode cX1_texts 13 = .ok (.invokeinterface 140 1, 5) := by decide +kernel
theorem dX1_texts_18 : decode cX1_texts 18 = .ok (.ifCond .eq 31, 3) := dk_153 0 31 (dk_at dksX1_texts_0 18 rfl rfl)
theorem dX1_texts_21 : decode cX1_texts 21 = .ok (.aload_n 2, 1) := dk_44 (dk_at dksX1_texts_0 21 rfl rfl)
theorem dX1_texts_22 : decode cX1_texts 22 = .ok (.invokeinterface 146 1, 5) := by decide +kernel
theorem dX1_texts_27 : decode cX1_texts 27 = .ok (.checkcast 133, 3) := dk_192 0 133 (dk_at dksX1_texts_1 5 rfl rfl)
theorem dX1_texts_30 : decode cX1_texts 30 = .ok (.astore_n 3, 1) := dk_78 (dk_at dksX1_texts_1 8 rfl rfl)
theorem dX1_texts_31 : decode cX1_texts 31 = .ok (.iload_n 1, 1) := dk_27 (dk_at dksX1_texts_1 9 rfl rfl)
theorem dX1_texts_32 : decode cX1_texts 32 = .ok (.aload_n 3, 1) := dk_45 (dk_at dksX1_texts_1 10 rfl rfl)
theorem dX1_texts_33 : decode cX1_texts 33 = .ok (.getfield 161, 3) := dk_180 0 161 (dk_at dksX1_texts_1 11 rfl rfl)
theorem dX1_texts_36 : decode cX1_texts 36 = .ok (.ifCond .eq 7, 3) := dk_153 0 7 (dk_at dksX1_texts_1 14 rfl rfl)
theorem dX1_texts_39 : decode cX1_texts 39 = .ok (.iconst 1, 1) := dk_4 (dk_at dksX1_texts_1 17 rfl rfl)
theorem dX1_texts_40 : decode cX1_texts 40 = .ok (.goto 4, 3) := dk_167 0 4 (dk_at dksX1_texts_1 18 rfl rfl)
theorem dX1_texts_43 : decode cX1_texts 43 = .ok (.iconst 0, 1) := dk_3 (dk_at dksX1_texts_1 21 rfl rfl)
theorem dX1_texts_44 : decode cX1_texts 44 = .ok (.iadd, 1) := dk_96 (dk_at dksX1_texts_1 22 rfl rfl)
theorem dX1_texts_45 : decode cX1_texts 45 = .ok (.istore_n 1, 1) := dk_60 (dk_at dksX1_texts_1 23 rfl rfl)
theorem dX1_texts_46 : decode cX1_texts 46 = .ok (.goto (-34), 3) := dk_167 255 222 (dk_at dksX1_texts_2 0 rfl rfl)
theorem dX1_texts_49 : decode cX1_texts 49 = .ok (.iload_n 1, 1) := dk_27 (dk_at dksX1_texts_2 3 rfl rfl)
theorem dX1_texts_50 : decode cX1_texts 50 = .ok (.ireturn, 1) := dk_172 (dk_at dksX1_texts_2 4 rfl rfl)
abbrev cX1_letter : ByteArray := prog_1_method_8_code
def yX1_letter : MethodName := ⟨RX1, "letter", "(C)I"⟩
def dkwX1_letter_3 : List UInt8 := [172]
abbrev dktX1_letter_3 : List UInt8 := dkwX1_letter_3 ++ []
def dkwX1_letter_2 : List UInt8 := [90, 180, 0, 71, 182, 0, 104, 27, 182, 0, 108, 182, 0, 21, 181, 0, 71, 42, 180, 0, 71, 182, 0, 7]
abbrev dktX1_letter_2 : List UInt8 := dkwX1_letter_2 ++ dktX1_letter_3
def dkwX1_letter_1 : List UInt8 := [182, 0, 7, 16, 6, 162, 0, 7, 4, 167, 0, 4, 3, 184, 0, 100, 187, 0, 1, 89, 183, 0, 3, 42]
abbrev dktX1_letter_1 : List UInt8 := dkwX1_letter_1 ++ dktX1_letter_2
def dkwX1_letter_0 : List UInt8 := [27, 16, 97, 161, 0, 9, 27, 16, 122, 164, 0, 11, 187, 0, 97, 89, 183, 0, 99, 191, 42, 180, 0, 71]
abbrev dktX1_letter_0 : List UInt8 := dkwX1_letter_0 ++ dktX1_letter_1
theorem dksX1_letter_0 : cX1_letter.data.toList.drop 0 = dktX1_letter_0 := by decide +kernel
theorem dksX1_letter_1 : cX1_letter.data.toList.drop 24 = dktX1_letter_1 := dk_seg dksX1_letter_0 24 rfl rfl
theorem dksX1_letter_2 : cX1_letter.data.toList.drop 48 = dktX1_letter_2 := dk_seg dksX1_letter_1 24 rfl rfl
theorem dksX1_letter_3 : cX1_letter.data.toList.drop 72 = dktX1_letter_3 := dk_seg dksX1_letter_2 24 rfl rfl
theorem dX1_letter_0 : decode cX1_letter 0 = .ok (.iload_n 1, 1) := dk_27 (dk_at dksX1_letter_0 0 rfl rfl)
theorem dX1_letter_1 : decode cX1_letter 1 = .ok (.bipush 97, 2) := dk_16 97 (dk_at dksX1_letter_0 1 rfl rfl)
theorem dX1_letter_3 : decode cX1_letter 3 = .ok (.if_icmp .lt 9, 3) := dk_161 0 9 (dk_at dksX1_letter_0 3 rfl rfl)
theorem dX1_letter_6 : decode cX1_letter 6 = .ok (.iload_n 1, 1) := dk_27 (dk_at dksX1_letter_0 6 rfl rfl)
theorem dX1_letter_7 : decode cX1_letter 7 = .ok (.bipush 122, 2) := dk_16 122 (dk_at dksX1_letter_0 7 rfl rfl)
theorem dX1_letter_9 : decode cX1_letter 9 = .ok (.if_icmp .le 11, 3) := dk_164 0 11 (dk_at dksX1_letter_0 9 rfl rfl)
theorem dX1_letter_12 : decode cX1_letter 12 = .ok (.new 97, 3) := dk_187 0 97 (dk_at dksX1_letter_0 12 rfl rfl)
theorem dX1_letter_15 : decode cX1_letter 15 = .ok (.dup, 1) := dk_89 (dk_at dksX1_letter_0 15 rfl rfl)
theorem dX1_letter_16 : decode cX1_letter 16 = .ok (.invokespecial 99, 3) := dk_183 0 99 (dk_at dksX1_letter_0 16 rfl rfl)
theorem dX1_letter_19 : decode cX1_letter 19 = .ok (.athrow, 1) := dk_191 (dk_at dksX1_letter_0 19 rfl rfl)
theorem dX1_letter_20 : decode cX1_letter 20 = .ok (.aload_n 0, 1) := dk_42 (dk_at dksX1_letter_0 20 rfl rfl)
theorem dX1_letter_21 : decode cX1_letter 21 = .ok (.getfield 71, 3) := dk_180 0 71 (dk_at dksX1_letter_0 21 rfl rfl)
theorem dX1_letter_24 : decode cX1_letter 24 = .ok (.invokevirtual 7, 3) := dk_182 0 7 (dk_at dksX1_letter_1 0 rfl rfl)
theorem dX1_letter_27 : decode cX1_letter 27 = .ok (.bipush 6, 2) := dk_16 6 (dk_at dksX1_letter_1 3 rfl rfl)
theorem dX1_letter_29 : decode cX1_letter 29 = .ok (.if_icmp .ge 7, 3) := dk_162 0 7 (dk_at dksX1_letter_1 5 rfl rfl)
theorem dX1_letter_32 : decode cX1_letter 32 = .ok (.iconst 1, 1) := dk_4 (dk_at dksX1_letter_1 8 rfl rfl)
theorem dX1_letter_33 : decode cX1_letter 33 = .ok (.goto 4, 3) := dk_167 0 4 (dk_at dksX1_letter_1 9 rfl rfl)
theorem dX1_letter_36 : decode cX1_letter 36 = .ok (.iconst 0, 1) := dk_3 (dk_at dksX1_letter_1 12 rfl rfl)
theorem dX1_letter_37 : decode cX1_letter 37 = .ok (.invokestatic 100, 3) := dk_184 0 100 (dk_at dksX1_letter_1 13 rfl rfl)
theorem dX1_letter_40 : decode cX1_letter 40 = .ok (.new 1, 3) := dk_187 0 1 (dk_at dksX1_letter_1 16 rfl rfl)
theorem dX1_letter_43 : decode cX1_letter 43 = .ok (.dup, 1) := dk_89 (dk_at dksX1_letter_1 19 rfl rfl)
theorem dX1_letter_44 : decode cX1_letter 44 = .ok (.invokespecial 3, 3) := dk_183 0 3 (dk_at dksX1_letter_1 20 rfl rfl)
theorem dX1_letter_47 : decode cX1_letter 47 = .ok (.aload_n 0, 1) := dk_42 (dk_at dksX1_letter_1 23 rfl rfl)
theorem dX1_letter_48 : decode cX1_letter 48 = .ok (.dup_x1, 1) := dk_90 (dk_at dksX1_letter_2 0 rfl rfl)
theorem dX1_letter_49 : decode cX1_letter 49 = .ok (.getfield 71, 3) := dk_180 0 71 (dk_at dksX1_letter_2 1 rfl rfl)
theorem dX1_letter_52 : decode cX1_letter 52 = .ok (.invokevirtual 104, 3) := dk_182 0 104 (dk_at dksX1_letter_2 4 rfl rfl)
theorem dX1_letter_55 : decode cX1_letter 55 = .ok (.iload_n 1, 1) := dk_27 (dk_at dksX1_letter_2 7 rfl rfl)
theorem dX1_letter_56 : decode cX1_letter 56 = .ok (.invokevirtual 108, 3) := dk_182 0 108 (dk_at dksX1_letter_2 8 rfl rfl)
theorem dX1_letter_59 : decode cX1_letter 59 = .ok (.invokevirtual 21, 3) := dk_182 0 21 (dk_at dksX1_letter_2 11 rfl rfl)
theorem dX1_letter_62 : decode cX1_letter 62 = .ok (.putfield 71, 3) := dk_181 0 71 (dk_at dksX1_letter_2 14 rfl rfl)
theorem dX1_letter_65 : decode cX1_letter 65 = .ok (.aload_n 0, 1) := dk_42 (dk_at dksX1_letter_2 17 rfl rfl)
theorem dX1_letter_66 : decode cX1_letter 66 = .ok (.getfield 71, 3) := dk_180 0 71 (dk_at dksX1_letter_2 18 rfl rfl)
theorem dX1_letter_69 : decode cX1_letter 69 = .ok (.invokevirtual 7, 3) := dk_182 0 7 (dk_at dksX1_letter_2 21 rfl rfl)
theorem dX1_letter_72 : decode cX1_letter 72 = .ok (.ireturn, 1) := dk_172 (dk_at dksX1_letter_3 0 rfl rfl)
abbrev cX1_needState : ByteArray := prog_1_method_4_code
def yX1_needState : MethodName := ⟨RX1, "needState", "(Z)V"⟩
def dkwX1_needState_0 : List UInt8 := [26, 154, 0, 11, 187, 0, 78, 89, 183, 0, 80, 191, 177]
abbrev dktX1_needState_0 : List UInt8 := dkwX1_needState_0 ++ []
theorem dksX1_needState_0 : cX1_needState.data.toList.drop 0 = dktX1_needState_0 := by decide +kernel
theorem dX1_needState_0 : decode cX1_needState 0 = .ok (.iload_n 0, 1) := dk_26 (dk_at dksX1_needState_0 0 rfl rfl)
theorem dX1_needState_1 : decode cX1_needState 1 = .ok (.ifCond .ne 11, 3) := dk_154 0 11 (dk_at dksX1_needState_0 1 rfl rfl)
theorem dX1_needState_4 : decode cX1_needState 4 = .ok (.new 78, 3) := dk_187 0 78 (dk_at dksX1_needState_0 4 rfl rfl)
theorem dX1_needState_7 : decode cX1_needState 7 = .ok (.dup, 1) := dk_89 (dk_at dksX1_needState_0 7 rfl rfl)
theorem dX1_needState_8 : decode cX1_needState 8 = .ok (.invokespecial 80, 3) := dk_183 0 80 (dk_at dksX1_needState_0 8 rfl rfl)
theorem dX1_needState_11 : decode cX1_needState 11 = .ok (.athrow, 1) := dk_191 (dk_at dksX1_needState_0 11 rfl rfl)
theorem dX1_needState_12 : decode cX1_needState 12 = .ok (.return_, 1) := dk_177 (dk_at dksX1_needState_0 12 rfl rfl)
abbrev cX1_tag : ByteArray := prog_1_method_9_code
def yX1_tag : MethodName := ⟨RX1, "tag", "(I)I"⟩
def dkwX1_tag_2 : List UInt8 := [182, 0, 122, 27, 183, 0, 125, 185, 0, 128, 2, 0, 87, 42, 180, 0, 60, 185, 0, 115, 1, 0, 172]
abbrev dktX1_tag_2 : List UInt8 := dkwX1_tag_2 ++ []
def dkwX1_tag_1 : List UInt8 := [16, 6, 162, 0, 7, 4, 167, 0, 4, 3, 184, 0, 100, 42, 180, 0, 60, 187, 0, 120, 89, 42]
abbrev dktX1_tag_1 : List UInt8 := dkwX1_tag_1 ++ dktX1_tag_2
def dkwX1_tag_0 : List UInt8 := [27, 8, 184, 0, 111, 42, 180, 0, 71, 182, 0, 7, 158, 0, 21, 42, 180, 0, 60, 185, 0, 115, 1, 0]
abbrev dktX1_tag_0 : List UInt8 := dkwX1_tag_0 ++ dktX1_tag_1
theorem dksX1_tag_0 : cX1_tag.data.toList.drop 0 = dktX1_tag_0 := by decide +kernel
theorem dksX1_tag_1 : cX1_tag.data.toList.drop 24 = dktX1_tag_1 := dk_seg dksX1_tag_0 24 rfl rfl
theorem dksX1_tag_2 : cX1_tag.data.toList.drop 46 = dktX1_tag_2 := dk_seg dksX1_tag_1 22 rfl rfl
theorem dX1_tag_0 : decode cX1_tag 0 = .ok (.iload_n 1, 1) := dk_27 (dk_at dksX1_tag_0 0 rfl rfl)
theorem dX1_tag_1 : decode cX1_tag 1 = .ok (.iconst 5, 1) := dk_8 (dk_at dksX1_tag_0 1 rfl rfl)
theorem dX1_tag_2 : decode cX1_tag 2 = .ok (.invokestatic 111, 3) := dk_184 0 111 (dk_at dksX1_tag_0 2 rfl rfl)
theorem dX1_tag_5 : decode cX1_tag 5 = .ok (.aload_n 0, 1) := dk_42 (dk_at dksX1_tag_0 5 rfl rfl)
theorem dX1_tag_6 : decode cX1_tag 6 = .ok (.getfield 71, 3) := dk_180 0 71 (dk_at dksX1_tag_0 6 rfl rfl)
theorem dX1_tag_9 : decode cX1_tag 9 = .ok (.invokevirtual 7, 3) := dk_182 0 7 (dk_at dksX1_tag_0 9 rfl rfl)
theorem dX1_tag_12 : decode cX1_tag 12 = .ok (.ifCond .le 21, 3) := dk_158 0 21 (dk_at dksX1_tag_0 12 rfl rfl)
theorem dX1_tag_15 : decode cX1_tag 15 = .ok (.aload_n 0, 1) := dk_42 (dk_at dksX1_tag_0 15 rfl rfl)
theorem dX1_tag_16 : decode cX1_tag 16 = .ok (.getfield 60, 3) := dk_180 0 60 (dk_at dksX1_tag_0 16 rfl rfl)
theorem dX1_tag_19 : decode cX1_tag 19 = .ok (.invokeinterface 115 1, 5) := by decide +kernel
theorem dX1_tag_24 : decode cX1_tag 24 = .ok (.bipush 6, 2) := dk_16 6 (dk_at dksX1_tag_1 0 rfl rfl)
theorem dX1_tag_26 : decode cX1_tag 26 = .ok (.if_icmp .ge 7, 3) := dk_162 0 7 (dk_at dksX1_tag_1 2 rfl rfl)
theorem dX1_tag_29 : decode cX1_tag 29 = .ok (.iconst 1, 1) := dk_4 (dk_at dksX1_tag_1 5 rfl rfl)
theorem dX1_tag_30 : decode cX1_tag 30 = .ok (.goto 4, 3) := dk_167 0 4 (dk_at dksX1_tag_1 6 rfl rfl)
theorem dX1_tag_33 : decode cX1_tag 33 = .ok (.iconst 0, 1) := dk_3 (dk_at dksX1_tag_1 9 rfl rfl)
theorem dX1_tag_34 : decode cX1_tag 34 = .ok (.invokestatic 100, 3) := dk_184 0 100 (dk_at dksX1_tag_1 10 rfl rfl)
theorem dX1_tag_37 : decode cX1_tag 37 = .ok (.aload_n 0, 1) := dk_42 (dk_at dksX1_tag_1 13 rfl rfl)
theorem dX1_tag_38 : decode cX1_tag 38 = .ok (.getfield 60, 3) := dk_180 0 60 (dk_at dksX1_tag_1 14 rfl rfl)
theorem dX1_tag_41 : decode cX1_tag 41 = .ok (.new 120, 3) := dk_187 0 120 (dk_at dksX1_tag_1 17 rfl rfl)
theorem dX1_tag_44 : decode cX1_tag 44 = .ok (.dup, 1) := dk_89 (dk_at dksX1_tag_1 20 rfl rfl)
theorem dX1_tag_45 : decode cX1_tag 45 = .ok (.aload_n 0, 1) := dk_42 (dk_at dksX1_tag_1 21 rfl rfl)
theorem dX1_tag_46 : decode cX1_tag 46 = .ok (.invokevirtual 122, 3) := dk_182 0 122 (dk_at dksX1_tag_2 0 rfl rfl)
theorem dX1_tag_49 : decode cX1_tag 49 = .ok (.iload_n 1, 1) := dk_27 (dk_at dksX1_tag_2 3 rfl rfl)
theorem dX1_tag_50 : decode cX1_tag 50 = .ok (.invokespecial 125, 3) := dk_183 0 125 (dk_at dksX1_tag_2 4 rfl rfl)
theorem dX1_tag_53 : decode cX1_tag 53 = .ok (.invokeinterface 128 2, 5) := by decide +kernel
theorem dX1_tag_58 : decode cX1_tag 58 = .ok (.pop, 1) := dk_87 (dk_at dksX1_tag_2 12 rfl rfl)
theorem dX1_tag_59 : decode cX1_tag 59 = .ok (.aload_n 0, 1) := dk_42 (dk_at dksX1_tag_2 13 rfl rfl)
theorem dX1_tag_60 : decode cX1_tag 60 = .ok (.getfield 60, 3) := dk_180 0 60 (dk_at dksX1_tag_2 14 rfl rfl)
theorem dX1_tag_63 : decode cX1_tag 63 = .ok (.invokeinterface 115 1, 5) := by decide +kernel
theorem dX1_tag_68 : decode cX1_tag 68 = .ok (.ireturn, 1) := dk_172 (dk_at dksX1_tag_2 22 rfl rfl)
abbrev cX1_needPlace : ByteArray := prog_1_method_3_code
def yX1_needPlace : MethodName := ⟨RX1, "needPlace", "(II)V"⟩
def dkwX1_needPlace_0 : List UInt8 := [26, 155, 0, 8, 26, 27, 161, 0, 11, 187, 0, 75, 89, 183, 0, 77, 191, 177]
abbrev dktX1_needPlace_0 : List UInt8 := dkwX1_needPlace_0 ++ []
theorem dksX1_needPlace_0 : cX1_needPlace.data.toList.drop 0 = dktX1_needPlace_0 := by decide +kernel
theorem dX1_needPlace_0 : decode cX1_needPlace 0 = .ok (.iload_n 0, 1) := dk_26 (dk_at dksX1_needPlace_0 0 rfl rfl)
theorem dX1_needPlace_1 : decode cX1_needPlace 1 = .ok (.ifCond .lt 8, 3) := dk_155 0 8 (dk_at dksX1_needPlace_0 1 rfl rfl)
theorem dX1_needPlace_4 : decode cX1_needPlace 4 = .ok (.iload_n 0, 1) := dk_26 (dk_at dksX1_needPlace_0 4 rfl rfl)
theorem dX1_needPlace_5 : decode cX1_needPlace 5 = .ok (.iload_n 1, 1) := dk_27 (dk_at dksX1_needPlace_0 5 rfl rfl)
theorem dX1_needPlace_6 : decode cX1_needPlace 6 = .ok (.if_icmp .lt 11, 3) := dk_161 0 11 (dk_at dksX1_needPlace_0 6 rfl rfl)
theorem dX1_needPlace_9 : decode cX1_needPlace 9 = .ok (.new 75, 3) := dk_187 0 75 (dk_at dksX1_needPlace_0 9 rfl rfl)
theorem dX1_needPlace_12 : decode cX1_needPlace 12 = .ok (.dup, 1) := dk_89 (dk_at dksX1_needPlace_0 12 rfl rfl)
theorem dX1_needPlace_13 : decode cX1_needPlace 13 = .ok (.invokespecial 77, 3) := dk_183 0 77 (dk_at dksX1_needPlace_0 13 rfl rfl)
theorem dX1_needPlace_16 : decode cX1_needPlace 16 = .ok (.athrow, 1) := dk_191 (dk_at dksX1_needPlace_0 16 rfl rfl)
theorem dX1_needPlace_17 : decode cX1_needPlace 17 = .ok (.return_, 1) := dk_177 (dk_at dksX1_needPlace_0 17 rfl rfl)
abbrev cX1_takeTyped : ByteArray := prog_1_method_5_code
def yX1_takeTyped : MethodName := ⟨RX1, "takeTyped", "()Ljava/lang/String;"⟩
def dkwX1_takeTyped_0 : List UInt8 := [42, 180, 0, 71, 76, 42, 18, 69, 181, 0, 71, 43, 176]
abbrev dktX1_takeTyped_0 : List UInt8 := dkwX1_takeTyped_0 ++ []
theorem dksX1_takeTyped_0 : cX1_takeTyped.data.toList.drop 0 = dktX1_takeTyped_0 := by decide +kernel
theorem dX1_takeTyped_0 : decode cX1_takeTyped 0 = .ok (.aload_n 0, 1) := dk_42 (dk_at dksX1_takeTyped_0 0 rfl rfl)
theorem dX1_takeTyped_1 : decode cX1_takeTyped 1 = .ok (.getfield 71, 3) := dk_180 0 71 (dk_at dksX1_takeTyped_0 1 rfl rfl)
theorem dX1_takeTyped_4 : decode cX1_takeTyped 4 = .ok (.astore_n 1, 1) := dk_76 (dk_at dksX1_takeTyped_0 4 rfl rfl)
theorem dX1_takeTyped_5 : decode cX1_takeTyped 5 = .ok (.aload_n 0, 1) := dk_42 (dk_at dksX1_takeTyped_0 5 rfl rfl)
theorem dX1_takeTyped_6 : decode cX1_takeTyped 6 = .ok (.ldc 69, 2) := dk_18 69 (dk_at dksX1_takeTyped_0 6 rfl rfl)
theorem dX1_takeTyped_8 : decode cX1_takeTyped 8 = .ok (.putfield 71, 3) := dk_181 0 71 (dk_at dksX1_takeTyped_0 8 rfl rfl)
theorem dX1_takeTyped_11 : decode cX1_takeTyped 11 = .ok (.aload_n 1, 1) := dk_43 (dk_at dksX1_takeTyped_0 11 rfl rfl)
theorem dX1_takeTyped_12 : decode cX1_takeTyped 12 = .ok (.areturn, 1) := dk_176 (dk_at dksX1_takeTyped_0 12 rfl rfl)
abbrev cX1_add : ByteArray := prog_1_method_11_code
def yX1_add : MethodName := ⟨RX1, "add", "()I"⟩
def dkwX1_add_3 : List UInt8 := [182, 0, 171, 42, 180, 0, 56, 185, 0, 115, 1, 0, 4, 100, 172]
abbrev dktX1_add_3 : List UInt8 := dkwX1_add_3 ++ []
def dkwX1_add_2 : List UInt8 := [187, 0, 53, 89, 183, 0, 55, 181, 0, 60, 42, 180, 0, 56, 43, 185, 0, 128, 2, 0, 87, 42, 43, 4]
abbrev dktX1_add_2 : List UInt8 := dkwX1_add_2 ++ dktX1_add_3
def dkwX1_add_1 : List UInt8 := [162, 0, 7, 4, 167, 0, 4, 3, 184, 0, 100, 187, 0, 133, 89, 42, 180, 0, 60, 183, 0, 168, 76, 42]
abbrev dktX1_add_1 : List UInt8 := dkwX1_add_1 ++ dktX1_add_2
def dkwX1_add_0 : List UInt8 := [42, 180, 0, 60, 185, 0, 165, 1, 0, 154, 0, 21, 42, 180, 0, 56, 185, 0, 115, 1, 0, 16, 20]
abbrev dktX1_add_0 : List UInt8 := dkwX1_add_0 ++ dktX1_add_1
theorem dksX1_add_0 : cX1_add.data.toList.drop 0 = dktX1_add_0 := by decide +kernel
theorem dksX1_add_1 : cX1_add.data.toList.drop 23 = dktX1_add_1 := dk_seg dksX1_add_0 23 rfl rfl
theorem dksX1_add_2 : cX1_add.data.toList.drop 47 = dktX1_add_2 := dk_seg dksX1_add_1 24 rfl rfl
theorem dksX1_add_3 : cX1_add.data.toList.drop 71 = dktX1_add_3 := dk_seg dksX1_add_2 24 rfl rfl
theorem dX1_add_0 : decode cX1_add 0 = .ok (.aload_n 0, 1) := dk_42 (dk_at dksX1_add_0 0 rfl rfl)
theorem dX1_add_1 : decode cX1_add 1 = .ok (.getfield 60, 3) := dk_180 0 60 (dk_at dksX1_add_0 1 rfl rfl)
theorem dX1_add_4 : decode cX1_add 4 = .ok (.invokeinterface 165 1, 5) := by decide +kernel
theorem dX1_add_9 : decode cX1_add 9 = .ok (.ifCond .ne 21, 3) := dk_154 0 21 (dk_at dksX1_add_0 9 rfl rfl)
theorem dX1_add_12 : decode cX1_add 12 = .ok (.aload_n 0, 1) := dk_42 (dk_at dksX1_add_0 12 rfl rfl)
theorem dX1_add_13 : decode cX1_add 13 = .ok (.getfield 56, 3) := dk_180 0 56 (dk_at dksX1_add_0 13 rfl rfl)
theorem dX1_add_16 : decode cX1_add 16 = .ok (.invokeinterface 115 1, 5) := by decide +kernel
theorem dX1_add_21 : decode cX1_add 21 = .ok (.bipush 20, 2) := dk_16 20 (dk_at dksX1_add_0 21 rfl rfl)
theorem dX1_add_23 : decode cX1_add 23 = .ok (.if_icmp .ge 7, 3) := dk_162 0 7 (dk_at dksX1_add_1 0 rfl rfl)
theorem dX1_add_26 : decode cX1_add 26 = .ok (.iconst 1, 1) := dk_4 (dk_at dksX1_add_1 3 rfl rfl)
theorem dX1_add_27 : decode cX1_add 27 = .ok (.goto 4, 3) := dk_167 0 4 (dk_at dksX1_add_1 4 rfl rfl)
theorem dX1_add_30 : decode cX1_add 30 = .ok (.iconst 0, 1) := dk_3 (dk_at dksX1_add_1 7 rfl rfl)
theorem dX1_add_31 : decode cX1_add 31 = .ok (.invokestatic 100, 3) := dk_184 0 100 (dk_at dksX1_add_1 8 rfl rfl)
theorem dX1_add_34 : decode cX1_add 34 = .ok (.new 133, 3) := dk_187 0 133 (dk_at dksX1_add_1 11 rfl rfl)
theorem dX1_add_37 : decode cX1_add 37 = .ok (.dup, 1) := dk_89 (dk_at dksX1_add_1 14 rfl rfl)
theorem dX1_add_38 : decode cX1_add 38 = .ok (.aload_n 0, 1) := dk_42 (dk_at dksX1_add_1 15 rfl rfl)
theorem dX1_add_39 : decode cX1_add 39 = .ok (.getfield 60, 3) := dk_180 0 60 (dk_at dksX1_add_1 16 rfl rfl)
theorem dX1_add_42 : decode cX1_add 42 = .ok (.invokespecial 168, 3) := dk_183 0 168 (dk_at dksX1_add_1 19 rfl rfl)
theorem dX1_add_45 : decode cX1_add 45 = .ok (.astore_n 1, 1) := dk_76 (dk_at dksX1_add_1 22 rfl rfl)
theorem dX1_add_46 : decode cX1_add 46 = .ok (.aload_n 0, 1) := dk_42 (dk_at dksX1_add_1 23 rfl rfl)
theorem dX1_add_47 : decode cX1_add 47 = .ok (.new 53, 3) := dk_187 0 53 (dk_at dksX1_add_2 0 rfl rfl)
theorem dX1_add_50 : decode cX1_add 50 = .ok (.dup, 1) := dk_89 (dk_at dksX1_add_2 3 rfl rfl)
theorem dX1_add_51 : decode cX1_add 51 = .ok (.invokespecial 55, 3) := dk_183 0 55 (dk_at dksX1_add_2 4 rfl rfl)
theorem dX1_add_54 : decode cX1_add 54 = .ok (.putfield 60, 3) := dk_181 0 60 (dk_at dksX1_add_2 7 rfl rfl)
theorem dX1_add_57 : decode cX1_add 57 = .ok (.aload_n 0, 1) := dk_42 (dk_at dksX1_add_2 10 rfl rfl)
theorem dX1_add_58 : decode cX1_add 58 = .ok (.getfield 56, 3) := dk_180 0 56 (dk_at dksX1_add_2 11 rfl rfl)
theorem dX1_add_61 : decode cX1_add 61 = .ok (.aload_n 1, 1) := dk_43 (dk_at dksX1_add_2 14 rfl rfl)
theorem dX1_add_62 : decode cX1_add 62 = .ok (.invokeinterface 128 2, 5) := by decide +kernel
theorem dX1_add_67 : decode cX1_add 67 = .ok (.pop, 1) := dk_87 (dk_at dksX1_add_2 20 rfl rfl)
theorem dX1_add_68 : decode cX1_add 68 = .ok (.aload_n 0, 1) := dk_42 (dk_at dksX1_add_2 21 rfl rfl)
theorem dX1_add_69 : decode cX1_add 69 = .ok (.aload_n 1, 1) := dk_43 (dk_at dksX1_add_2 22 rfl rfl)
theorem dX1_add_70 : decode cX1_add 70 = .ok (.iconst 1, 1) := dk_4 (dk_at dksX1_add_2 23 rfl rfl)
theorem dX1_add_71 : decode cX1_add 71 = .ok (.invokevirtual 171, 3) := dk_182 0 171 (dk_at dksX1_add_3 0 rfl rfl)
theorem dX1_add_74 : decode cX1_add 74 = .ok (.aload_n 0, 1) := dk_42 (dk_at dksX1_add_3 3 rfl rfl)
theorem dX1_add_75 : decode cX1_add 75 = .ok (.getfield 56, 3) := dk_180 0 56 (dk_at dksX1_add_3 4 rfl rfl)
theorem dX1_add_78 : decode cX1_add 78 = .ok (.invokeinterface 115 1, 5) := by decide +kernel
theorem dX1_add_83 : decode cX1_add 83 = .ok (.iconst 1, 1) := dk_4 (dk_at dksX1_add_3 12 rfl rfl)
theorem dX1_add_84 : decode cX1_add 84 = .ok (.isub, 1) := dk_100 (dk_at dksX1_add_3 13 rfl rfl)
theorem dX1_add_85 : decode cX1_add 85 = .ok (.ireturn, 1) := dk_172 (dk_at dksX1_add_3 14 rfl rfl)
abbrev cX1_count : ByteArray := prog_1_method_10_code
def yX1_count : MethodName := ⟨RX1, "count", "(LTrellistag$Text;I)V"⟩
def dkwX1_count_5 : List UInt8 := [62, 167, 255, 154, 43, 28, 158, 0, 7, 4, 167, 0, 4, 3, 181, 0, 161, 177]
abbrev dktX1_count_5 : List UInt8 := dkwX1_count_5 ++ []
def dkwX1_count_4 : List UInt8 := [167, 0, 19, 42, 180, 0, 46, 29, 50, 25, 5, 182, 0, 153, 92, 46, 28, 96, 79, 25, 5, 182, 0, 153]
abbrev dktX1_count_4 : List UInt8 := dkwX1_count_4 ++ dktX1_count_5
def dkwX1_count_3 : List UInt8 := [182, 0, 160, 29, 2, 160, 0, 20, 42, 180, 0, 49, 25, 5, 182, 0, 153, 92, 46, 28, 96, 79]
abbrev dktX1_count_3 : List UInt8 := dkwX1_count_3 ++ dktX1_count_4
def dkwX1_count_2 : List UInt8 := [182, 0, 153, 28, 182, 0, 156, 42, 180, 0, 40, 25, 5, 182, 0, 150, 25, 5, 182, 0, 153, 28]
abbrev dktX1_count_2 : List UInt8 := dkwX1_count_2 ++ dktX1_count_3
def dkwX1_count_1 : List UInt8 := [25, 4, 185, 0, 146, 1, 0, 192, 0, 120, 58, 5, 42, 180, 0, 31, 25, 5, 182, 0, 150, 25, 5]
abbrev dktX1_count_1 : List UInt8 := dkwX1_count_1 ++ dktX1_count_2
def dkwX1_count_0 : List UInt8 := [2, 62, 43, 180, 0, 132, 185, 0, 136, 1, 0, 58, 4, 25, 4, 185, 0, 140, 1, 0, 153, 0, 98]
abbrev dktX1_count_0 : List UInt8 := dkwX1_count_0 ++ dktX1_count_1
theorem dksX1_count_0 : cX1_count.data.toList.drop 0 = dktX1_count_0 := by decide +kernel
theorem dksX1_count_1 : cX1_count.data.toList.drop 23 = dktX1_count_1 := dk_seg dksX1_count_0 23 rfl rfl
theorem dksX1_count_2 : cX1_count.data.toList.drop 46 = dktX1_count_2 := dk_seg dksX1_count_1 23 rfl rfl
theorem dksX1_count_3 : cX1_count.data.toList.drop 68 = dktX1_count_3 := dk_seg dksX1_count_2 22 rfl rfl
theorem dksX1_count_4 : cX1_count.data.toList.drop 90 = dktX1_count_4 := dk_seg dksX1_count_3 22 rfl rfl
theorem dksX1_count_5 : cX1_count.data.toList.drop 114 = dktX1_count_5 := dk_seg dksX1_count_4 24 rfl rfl
theorem dX1_count_0 : decode cX1_count 0 = .ok (.iconst (-1), 1) := dk_2 (dk_at dksX1_count_0 0 rfl rfl)
theorem dX1_count_1 : decode cX1_count 1 = .ok (.istore_n 3, 1) := dk_62 (dk_at dksX1_count_0 1 rfl rfl)
theorem dX1_count_2 : decode cX1_count 2 = .ok (.aload_n 1, 1) := dk_43 (dk_at dksX1_count_0 2 rfl rfl)
theorem dX1_count_3 : decode cX1_count 3 = .ok (.getfield 132, 3) := dk_180 0 132 (dk_at dksX1_count_0 3 rfl rfl)
theorem dX1_count_6 : decode cX1_count 6 = .ok (.invokeinterface 136 1, 5) := by decide +kernel
theorem dX1_count_11 : decode cX1_count 11 = .ok (.astore 4, 2) := dk_58 4 (dk_at dksX1_count_0 11 rfl rfl)
theorem dX1_count_13 : decode cX1_count 13 = .ok (.aload 4, 2) := dk_25 4 (dk_at dksX1_count_0 13 rfl rfl)
theorem dX1_count_15 : decode cX1_count 15 = .ok (.invokeinterface 140 1, 5) := by decide +kernel
theorem dX1_count_20 : decode cX1_count 20 = .ok (.ifCond .eq 98, 3) := dk_153 0 98 (dk_at dksX1_count_0 20 rfl rfl)
theorem dX1_count_23 : decode cX1_count 23 = .ok (.aload 4, 2) := dk_25 4 (dk_at dksX1_count_1 0 rfl rfl)
theorem dX1_count_25 : decode cX1_count 25 = .ok (.invokeinterface 146 1, 5) := by decide +kernel
theorem dX1_count_30 : decode cX1_count 30 = .ok (.checkcast 120, 3) := dk_192 0 120 (dk_at dksX1_count_1 7 rfl rfl)
theorem dX1_count_33 : decode cX1_count 33 = .ok (.astore 5, 2) := dk_58 5 (dk_at dksX1_count_1 10 rfl rfl)
theorem dX1_count_35 : decode cX1_count 35 = .ok (.aload_n 0, 1) := dk_42 (dk_at dksX1_count_1 12 rfl rfl)
theorem dX1_count_36 : decode cX1_count 36 = .ok (.getfield 31, 3) := dk_180 0 31 (dk_at dksX1_count_1 13 rfl rfl)
theorem dX1_count_39 : decode cX1_count 39 = .ok (.aload 5, 2) := dk_25 5 (dk_at dksX1_count_1 16 rfl rfl)
theorem dX1_count_41 : decode cX1_count 41 = .ok (.invokevirtual 150, 3) := dk_182 0 150 (dk_at dksX1_count_1 18 rfl rfl)
theorem dX1_count_44 : decode cX1_count 44 = .ok (.aload 5, 2) := dk_25 5 (dk_at dksX1_count_1 21 rfl rfl)
theorem dX1_count_46 : decode cX1_count 46 = .ok (.invokevirtual 153, 3) := dk_182 0 153 (dk_at dksX1_count_2 0 rfl rfl)
theorem dX1_count_49 : decode cX1_count 49 = .ok (.iload_n 2, 1) := dk_28 (dk_at dksX1_count_2 3 rfl rfl)
theorem dX1_count_50 : decode cX1_count 50 = .ok (.invokevirtual 156, 3) := dk_182 0 156 (dk_at dksX1_count_2 4 rfl rfl)
theorem dX1_count_53 : decode cX1_count 53 = .ok (.aload_n 0, 1) := dk_42 (dk_at dksX1_count_2 7 rfl rfl)
theorem dX1_count_54 : decode cX1_count 54 = .ok (.getfield 40, 3) := dk_180 0 40 (dk_at dksX1_count_2 8 rfl rfl)
theorem dX1_count_57 : decode cX1_count 57 = .ok (.aload 5, 2) := dk_25 5 (dk_at dksX1_count_2 11 rfl rfl)
theorem dX1_count_59 : decode cX1_count 59 = .ok (.invokevirtual 150, 3) := dk_182 0 150 (dk_at dksX1_count_2 13 rfl rfl)
theorem dX1_count_62 : decode cX1_count 62 = .ok (.aload 5, 2) := dk_25 5 (dk_at dksX1_count_2 16 rfl rfl)
theorem dX1_count_64 : decode cX1_count 64 = .ok (.invokevirtual 153, 3) := dk_182 0 153 (dk_at dksX1_count_2 18 rfl rfl)
theorem dX1_count_67 : decode cX1_count 67 = .ok (.iload_n 2, 1) := dk_28 (dk_at dksX1_count_2 21 rfl rfl)
theorem dX1_count_68 : decode cX1_count 68 = .ok (.invokevirtual 160, 3) := dk_182 0 160 (dk_at dksX1_count_3 0 rfl rfl)
theorem dX1_count_71 : decode cX1_count 71 = .ok (.iload_n 3, 1) := dk_29 (dk_at dksX1_count_3 3 rfl rfl)
theorem dX1_count_72 : decode cX1_count 72 = .ok (.iconst (-1), 1) := dk_2 (dk_at dksX1_count_3 4 rfl rfl)
theorem dX1_count_73 : decode cX1_count 73 = .ok (.if_icmp .ne 20, 3) := dk_160 0 20 (dk_at dksX1_count_3 5 rfl rfl)
theorem dX1_count_76 : decode cX1_count 76 = .ok (.aload_n 0, 1) := dk_42 (dk_at dksX1_count_3 8 rfl rfl)
theorem dX1_count_77 : decode cX1_count 77 = .ok (.getfield 49, 3) := dk_180 0 49 (dk_at dksX1_count_3 9 rfl rfl)
theorem dX1_count_80 : decode cX1_count 80 = .ok (.aload 5, 2) := dk_25 5 (dk_at dksX1_count_3 12 rfl rfl)
theorem dX1_count_82 : decode cX1_count 82 = .ok (.invokevirtual 153, 3) := dk_182 0 153 (dk_at dksX1_count_3 14 rfl rfl)
theorem dX1_count_85 : decode cX1_count 85 = .ok (.dup2, 1) := dk_92 (dk_at dksX1_count_3 17 rfl rfl)
theorem dX1_count_86 : decode cX1_count 86 = .ok (.iaload, 1) := dk_46 (dk_at dksX1_count_3 18 rfl rfl)
theorem dX1_count_87 : decode cX1_count 87 = .ok (.iload_n 2, 1) := dk_28 (dk_at dksX1_count_3 19 rfl rfl)
theorem dX1_count_88 : decode cX1_count 88 = .ok (.iadd, 1) := dk_96 (dk_at dksX1_count_3 20 rfl rfl)
theorem dX1_count_89 : decode cX1_count 89 = .ok (.iastore, 1) := dk_79 (dk_at dksX1_count_3 21 rfl rfl)
theorem dX1_count_90 : decode cX1_count 90 = .ok (.goto 19, 3) := dk_167 0 19 (dk_at dksX1_count_4 0 rfl rfl)
theorem dX1_count_93 : decode cX1_count 93 = .ok (.aload_n 0, 1) := dk_42 (dk_at dksX1_count_4 3 rfl rfl)
theorem dX1_count_94 : decode cX1_count 94 = .ok (.getfield 46, 3) := dk_180 0 46 (dk_at dksX1_count_4 4 rfl rfl)
theorem dX1_count_97 : decode cX1_count 97 = .ok (.iload_n 3, 1) := dk_29 (dk_at dksX1_count_4 7 rfl rfl)
theorem dX1_count_98 : decode cX1_count 98 = .ok (.aaload, 1) := dk_50 (dk_at dksX1_count_4 8 rfl rfl)
theorem dX1_count_99 : decode cX1_count 99 = .ok (.aload 5, 2) := dk_25 5 (dk_at dksX1_count_4 9 rfl rfl)
theorem dX1_count_101 : decode cX1_count 101 = .ok (.invokevirtual 153, 3) := dk_182 0 153 (dk_at dksX1_count_4 11 rfl rfl)
theorem dX1_count_104 : decode cX1_count 104 = .ok (.dup2, 1) := dk_92 (dk_at dksX1_count_4 14 rfl rfl)
theorem dX1_count_105 : decode cX1_count 105 = .ok (.iaload, 1) := dk_46 (dk_at dksX1_count_4 15 rfl rfl)
theorem dX1_count_106 : decode cX1_count 106 = .ok (.iload_n 2, 1) := dk_28 (dk_at dksX1_count_4 16 rfl rfl)
theorem dX1_count_107 : decode cX1_count 107 = .ok (.iadd, 1) := dk_96 (dk_at dksX1_count_4 17 rfl rfl)
theorem dX1_count_108 : decode cX1_count 108 = .ok (.iastore, 1) := dk_79 (dk_at dksX1_count_4 18 rfl rfl)
theorem dX1_count_109 : decode cX1_count 109 = .ok (.aload 5, 2) := dk_25 5 (dk_at dksX1_count_4 19 rfl rfl)
theorem dX1_count_111 : decode cX1_count 111 = .ok (.invokevirtual 153, 3) := dk_182 0 153 (dk_at dksX1_count_4 21 rfl rfl)
theorem dX1_count_114 : decode cX1_count 114 = .ok (.istore_n 3, 1) := dk_62 (dk_at dksX1_count_5 0 rfl rfl)
theorem dX1_count_115 : decode cX1_count 115 = .ok (.goto (-102), 3) := dk_167 255 154 (dk_at dksX1_count_5 1 rfl rfl)
theorem dX1_count_118 : decode cX1_count 118 = .ok (.aload_n 1, 1) := dk_43 (dk_at dksX1_count_5 4 rfl rfl)
theorem dX1_count_119 : decode cX1_count 119 = .ok (.iload_n 2, 1) := dk_28 (dk_at dksX1_count_5 5 rfl rfl)
theorem dX1_count_120 : decode cX1_count 120 = .ok (.ifCond .le 7, 3) := dk_158 0 7 (dk_at dksX1_count_5 6 rfl rfl)
theorem dX1_count_123 : decode cX1_count 123 = .ok (.iconst 1, 1) := dk_4 (dk_at dksX1_count_5 9 rfl rfl)
theorem dX1_count_124 : decode cX1_count 124 = .ok (.goto 4, 3) := dk_167 0 4 (dk_at dksX1_count_5 10 rfl rfl)
theorem dX1_count_127 : decode cX1_count 127 = .ok (.iconst 0, 1) := dk_3 (dk_at dksX1_count_5 13 rfl rfl)
theorem dX1_count_128 : decode cX1_count 128 = .ok (.putfield 161, 3) := dk_181 0 161 (dk_at dksX1_count_5 14 rfl rfl)
theorem dX1_count_131 : decode cX1_count 131 = .ok (.return_, 1) := dk_177 (dk_at dksX1_count_5 17 rfl rfl)
abbrev cX1_endingOf : ByteArray := prog_1_method_1_code
def yX1_endingOf : MethodName := ⟨RX1, "endingOf", "(Ljava/lang/String;I)Ljava/lang/String;"⟩
def dkwX1_endingOf_1 : List UInt8 := [29, 100, 182, 0, 13, 182, 0, 17, 87, 132, 3, 1, 167, 255, 230, 44, 182, 0, 21, 176]
abbrev dktX1_endingOf_1 : List UInt8 := dkwX1_endingOf_1 ++ []
def dkwX1_endingOf_0 : List UInt8 := [187, 0, 1, 89, 183, 0, 3, 77, 3, 62, 29, 27, 162, 0, 27, 44, 3, 42, 42, 182, 0, 7, 4, 100]
abbrev dktX1_endingOf_0 : List UInt8 := dkwX1_endingOf_0 ++ dktX1_endingOf_1
theorem dksX1_endingOf_0 : cX1_endingOf.data.toList.drop 0 = dktX1_endingOf_0 := by decide +kernel
theorem dksX1_endingOf_1 : cX1_endingOf.data.toList.drop 24 = dktX1_endingOf_1 := dk_seg dksX1_endingOf_0 24 rfl rfl
theorem dX1_endingOf_0 : decode cX1_endingOf 0 = .ok (.new 1, 3) := dk_187 0 1 (dk_at dksX1_endingOf_0 0 rfl rfl)
theorem dX1_endingOf_3 : decode cX1_endingOf 3 = .ok (.dup, 1) := dk_89 (dk_at dksX1_endingOf_0 3 rfl rfl)
theorem dX1_endingOf_4 : decode cX1_endingOf 4 = .ok (.invokespecial 3, 3) := dk_183 0 3 (dk_at dksX1_endingOf_0 4 rfl rfl)
theorem dX1_endingOf_7 : decode cX1_endingOf 7 = .ok (.astore_n 2, 1) := dk_77 (dk_at dksX1_endingOf_0 7 rfl rfl)
theorem dX1_endingOf_8 : decode cX1_endingOf 8 = .ok (.iconst 0, 1) := dk_3 (dk_at dksX1_endingOf_0 8 rfl rfl)
theorem dX1_endingOf_9 : decode cX1_endingOf 9 = .ok (.istore_n 3, 1) := dk_62 (dk_at dksX1_endingOf_0 9 rfl rfl)
theorem dX1_endingOf_10 : decode cX1_endingOf 10 = .ok (.iload_n 3, 1) := dk_29 (dk_at dksX1_endingOf_0 10 rfl rfl)
theorem dX1_endingOf_11 : decode cX1_endingOf 11 = .ok (.iload_n 1, 1) := dk_27 (dk_at dksX1_endingOf_0 11 rfl rfl)
theorem dX1_endingOf_12 : decode cX1_endingOf 12 = .ok (.if_icmp .ge 27, 3) := dk_162 0 27 (dk_at dksX1_endingOf_0 12 rfl rfl)
theorem dX1_endingOf_15 : decode cX1_endingOf 15 = .ok (.aload_n 2, 1) := dk_44 (dk_at dksX1_endingOf_0 15 rfl rfl)
theorem dX1_endingOf_16 : decode cX1_endingOf 16 = .ok (.iconst 0, 1) := dk_3 (dk_at dksX1_endingOf_0 16 rfl rfl)
theorem dX1_endingOf_17 : decode cX1_endingOf 17 = .ok (.aload_n 0, 1) := dk_42 (dk_at dksX1_endingOf_0 17 rfl rfl)
theorem dX1_endingOf_18 : decode cX1_endingOf 18 = .ok (.aload_n 0, 1) := dk_42 (dk_at dksX1_endingOf_0 18 rfl rfl)
theorem dX1_endingOf_19 : decode cX1_endingOf 19 = .ok (.invokevirtual 7, 3) := dk_182 0 7 (dk_at dksX1_endingOf_0 19 rfl rfl)
theorem dX1_endingOf_22 : decode cX1_endingOf 22 = .ok (.iconst 1, 1) := dk_4 (dk_at dksX1_endingOf_0 22 rfl rfl)
theorem dX1_endingOf_23 : decode cX1_endingOf 23 = .ok (.isub, 1) := dk_100 (dk_at dksX1_endingOf_0 23 rfl rfl)
theorem dX1_endingOf_24 : decode cX1_endingOf 24 = .ok (.iload_n 3, 1) := dk_29 (dk_at dksX1_endingOf_1 0 rfl rfl)
theorem dX1_endingOf_25 : decode cX1_endingOf 25 = .ok (.isub, 1) := dk_100 (dk_at dksX1_endingOf_1 1 rfl rfl)
theorem dX1_endingOf_26 : decode cX1_endingOf 26 = .ok (.invokevirtual 13, 3) := dk_182 0 13 (dk_at dksX1_endingOf_1 2 rfl rfl)
theorem dX1_endingOf_29 : decode cX1_endingOf 29 = .ok (.invokevirtual 17, 3) := dk_182 0 17 (dk_at dksX1_endingOf_1 5 rfl rfl)
theorem dX1_endingOf_32 : decode cX1_endingOf 32 = .ok (.pop, 1) := dk_87 (dk_at dksX1_endingOf_1 8 rfl rfl)
theorem dX1_endingOf_33 : decode cX1_endingOf 33 = .ok (.iinc 3 1, 3) := dk_132 3 1 (dk_at dksX1_endingOf_1 9 rfl rfl)
theorem dX1_endingOf_36 : decode cX1_endingOf 36 = .ok (.goto (-26), 3) := dk_167 255 230 (dk_at dksX1_endingOf_1 12 rfl rfl)
theorem dX1_endingOf_39 : decode cX1_endingOf 39 = .ok (.aload_n 2, 1) := dk_44 (dk_at dksX1_endingOf_1 15 rfl rfl)
theorem dX1_endingOf_40 : decode cX1_endingOf 40 = .ok (.invokevirtual 21, 3) := dk_182 0 21 (dk_at dksX1_endingOf_1 16 rfl rfl)
theorem dX1_endingOf_43 : decode cX1_endingOf 43 = .ok (.areturn, 1) := dk_176 (dk_at dksX1_endingOf_1 19 rfl rfl)
abbrev cX1_text : ByteArray := prog_1_method_12_code
def yX1_text : MethodName := ⟨RX1, "text", "(IZ)Z"⟩
def dkwX1_text_2 : List UInt8 := [167, 0, 4, 2, 182, 0, 171, 21, 4, 172]
abbrev dktX1_text_2 : List UInt8 := dkwX1_text_2 ++ []
def dkwX1_text_1 : List UInt8 := [192, 0, 133, 78, 45, 180, 0, 161, 54, 4, 21, 4, 28, 159, 0, 17, 42, 45, 28, 153, 0, 7, 4]
abbrev dktX1_text_1 : List UInt8 := dkwX1_text_1 ++ dktX1_text_2
def dkwX1_text_0 : List UInt8 := [27, 42, 180, 0, 56, 185, 0, 115, 1, 0, 184, 0, 111, 42, 180, 0, 56, 27, 185, 0, 175, 2, 0]
abbrev dktX1_text_0 : List UInt8 := dkwX1_text_0 ++ dktX1_text_1
theorem dksX1_text_0 : cX1_text.data.toList.drop 0 = dktX1_text_0 := by decide +kernel
theorem dksX1_text_1 : cX1_text.data.toList.drop 23 = dktX1_text_1 := dk_seg dksX1_text_0 23 rfl rfl
theorem dksX1_text_2 : cX1_text.data.toList.drop 46 = dktX1_text_2 := dk_seg dksX1_text_1 23 rfl rfl
theorem dX1_text_0 : decode cX1_text 0 = .ok (.iload_n 1, 1) := dk_27 (dk_at dksX1_text_0 0 rfl rfl)
theorem dX1_text_1 : decode cX1_text 1 = .ok (.aload_n 0, 1) := dk_42 (dk_at dksX1_text_0 1 rfl rfl)
theorem dX1_text_2 : decode cX1_text 2 = .ok (.getfield 56, 3) := dk_180 0 56 (dk_at dksX1_text_0 2 rfl rfl)
theorem dX1_text_5 : decode cX1_text 5 = .ok (.invokeinterface 115 1, 5) := by decide +kernel
theorem dX1_text_10 : decode cX1_text 10 = .ok (.invokestatic 111, 3) := dk_184 0 111 (dk_at dksX1_text_0 10 rfl rfl)
theorem dX1_text_13 : decode cX1_text 13 = .ok (.aload_n 0, 1) := dk_42 (dk_at dksX1_text_0 13 rfl rfl)
theorem dX1_text_14 : decode cX1_text 14 = .ok (.getfield 56, 3) := dk_180 0 56 (dk_at dksX1_text_0 14 rfl rfl)
theorem dX1_text_17 : decode cX1_text 17 = .ok (.iload_n 1, 1) := dk_27 (dk_at dksX1_text_0 17 rfl rfl)
theorem dX1_text_18 : decode cX1_text 18 = .ok (.invokeinterface 175 2, 5) := by decide +kernel
theorem dX1_text_23 : decode cX1_text 23 = .ok (.checkcast 133, 3) := dk_192 0 133 (dk_at dksX1_text_1 0 rfl rfl)
theorem dX1_text_26 : decode cX1_text 26 = .ok (.astore_n 3, 1) := dk_78 (dk_at dksX1_text_1 3 rfl rfl)
theorem dX1_text_27 : decode cX1_text 27 = .ok (.aload_n 3, 1) := dk_45 (dk_at dksX1_text_1 4 rfl rfl)
theorem dX1_text_28 : decode cX1_text 28 = .ok (.getfield 161, 3) := dk_180 0 161 (dk_at dksX1_text_1 5 rfl rfl)
theorem dX1_text_31 : decode cX1_text 31 = .ok (.istore 4, 2) := dk_54 4 (dk_at dksX1_text_1 8 rfl rfl)
theorem dX1_text_33 : decode cX1_text 33 = .ok (.iload 4, 2) := dk_21 4 (dk_at dksX1_text_1 10 rfl rfl)
theorem dX1_text_35 : decode cX1_text 35 = .ok (.iload_n 2, 1) := dk_28 (dk_at dksX1_text_1 12 rfl rfl)
theorem dX1_text_36 : decode cX1_text 36 = .ok (.if_icmp .eq 17, 3) := dk_159 0 17 (dk_at dksX1_text_1 13 rfl rfl)
theorem dX1_text_39 : decode cX1_text 39 = .ok (.aload_n 0, 1) := dk_42 (dk_at dksX1_text_1 16 rfl rfl)
theorem dX1_text_40 : decode cX1_text 40 = .ok (.aload_n 3, 1) := dk_45 (dk_at dksX1_text_1 17 rfl rfl)
theorem dX1_text_41 : decode cX1_text 41 = .ok (.iload_n 2, 1) := dk_28 (dk_at dksX1_text_1 18 rfl rfl)
theorem dX1_text_42 : decode cX1_text 42 = .ok (.ifCond .eq 7, 3) := dk_153 0 7 (dk_at dksX1_text_1 19 rfl rfl)
theorem dX1_text_45 : decode cX1_text 45 = .ok (.iconst 1, 1) := dk_4 (dk_at dksX1_text_1 22 rfl rfl)
theorem dX1_text_46 : decode cX1_text 46 = .ok (.goto 4, 3) := dk_167 0 4 (dk_at dksX1_text_2 0 rfl rfl)
theorem dX1_text_49 : decode cX1_text 49 = .ok (.iconst (-1), 1) := dk_2 (dk_at dksX1_text_2 3 rfl rfl)
theorem dX1_text_50 : decode cX1_text 50 = .ok (.invokevirtual 171, 3) := dk_182 0 171 (dk_at dksX1_text_2 4 rfl rfl)
theorem dX1_text_53 : decode cX1_text 53 = .ok (.iload 4, 2) := dk_21 4 (dk_at dksX1_text_2 7 rfl rfl)
theorem dX1_text_55 : decode cX1_text 55 = .ok (.ireturn, 1) := dk_172 (dk_at dksX1_text_2 9 rfl rfl)
abbrev cX1_word : ByteArray := prog_1_method_13_code
def yX1_word : MethodName := ⟨RX1, "word", "()I"⟩
def dkwX1_word_2 : List UInt8 := [180, 0, 63, 42, 182, 0, 122, 185, 0, 128, 2, 0, 87, 42, 180, 0, 63, 185, 0, 115, 1, 0, 172]
abbrev dktX1_word_2 : List UInt8 := dkwX1_word_2 ++ []
def dkwX1_word_1 : List UInt8 := [167, 0, 4, 3, 184, 0, 100, 42, 180, 0, 66, 42, 180, 0, 63, 185, 0, 115, 1, 0, 2, 79, 42]
abbrev dktX1_word_1 : List UInt8 := dkwX1_word_1 ++ dktX1_word_2
def dkwX1_word_0 : List UInt8 := [42, 180, 0, 71, 182, 0, 7, 158, 0, 20, 42, 180, 0, 63, 185, 0, 115, 1, 0, 8, 162, 0, 7, 4]
abbrev dktX1_word_0 : List UInt8 := dkwX1_word_0 ++ dktX1_word_1
theorem dksX1_word_0 : cX1_word.data.toList.drop 0 = dktX1_word_0 := by decide +kernel
theorem dksX1_word_1 : cX1_word.data.toList.drop 24 = dktX1_word_1 := dk_seg dksX1_word_0 24 rfl rfl
theorem dksX1_word_2 : cX1_word.data.toList.drop 47 = dktX1_word_2 := dk_seg dksX1_word_1 23 rfl rfl
theorem dX1_word_0 : decode cX1_word 0 = .ok (.aload_n 0, 1) := dk_42 (dk_at dksX1_word_0 0 rfl rfl)
theorem dX1_word_1 : decode cX1_word 1 = .ok (.getfield 71, 3) := dk_180 0 71 (dk_at dksX1_word_0 1 rfl rfl)
theorem dX1_word_4 : decode cX1_word 4 = .ok (.invokevirtual 7, 3) := dk_182 0 7 (dk_at dksX1_word_0 4 rfl rfl)
theorem dX1_word_7 : decode cX1_word 7 = .ok (.ifCond .le 20, 3) := dk_158 0 20 (dk_at dksX1_word_0 7 rfl rfl)
theorem dX1_word_10 : decode cX1_word 10 = .ok (.aload_n 0, 1) := dk_42 (dk_at dksX1_word_0 10 rfl rfl)
theorem dX1_word_11 : decode cX1_word 11 = .ok (.getfield 63, 3) := dk_180 0 63 (dk_at dksX1_word_0 11 rfl rfl)
theorem dX1_word_14 : decode cX1_word 14 = .ok (.invokeinterface 115 1, 5) := by decide +kernel
theorem dX1_word_19 : decode cX1_word 19 = .ok (.iconst 5, 1) := dk_8 (dk_at dksX1_word_0 19 rfl rfl)
theorem dX1_word_20 : decode cX1_word 20 = .ok (.if_icmp .ge 7, 3) := dk_162 0 7 (dk_at dksX1_word_0 20 rfl rfl)
theorem dX1_word_23 : decode cX1_word 23 = .ok (.iconst 1, 1) := dk_4 (dk_at dksX1_word_0 23 rfl rfl)
theorem dX1_word_24 : decode cX1_word 24 = .ok (.goto 4, 3) := dk_167 0 4 (dk_at dksX1_word_1 0 rfl rfl)
theorem dX1_word_27 : decode cX1_word 27 = .ok (.iconst 0, 1) := dk_3 (dk_at dksX1_word_1 3 rfl rfl)
theorem dX1_word_28 : decode cX1_word 28 = .ok (.invokestatic 100, 3) := dk_184 0 100 (dk_at dksX1_word_1 4 rfl rfl)
theorem dX1_word_31 : decode cX1_word 31 = .ok (.aload_n 0, 1) := dk_42 (dk_at dksX1_word_1 7 rfl rfl)
theorem dX1_word_32 : decode cX1_word 32 = .ok (.getfield 66, 3) := dk_180 0 66 (dk_at dksX1_word_1 8 rfl rfl)
theorem dX1_word_35 : decode cX1_word 35 = .ok (.aload_n 0, 1) := dk_42 (dk_at dksX1_word_1 11 rfl rfl)
theorem dX1_word_36 : decode cX1_word 36 = .ok (.getfield 63, 3) := dk_180 0 63 (dk_at dksX1_word_1 12 rfl rfl)
theorem dX1_word_39 : decode cX1_word 39 = .ok (.invokeinterface 115 1, 5) := by decide +kernel
theorem dX1_word_44 : decode cX1_word 44 = .ok (.iconst (-1), 1) := dk_2 (dk_at dksX1_word_1 20 rfl rfl)
theorem dX1_word_45 : decode cX1_word 45 = .ok (.iastore, 1) := dk_79 (dk_at dksX1_word_1 21 rfl rfl)
theorem dX1_word_46 : decode cX1_word 46 = .ok (.aload_n 0, 1) := dk_42 (dk_at dksX1_word_1 22 rfl rfl)
theorem dX1_word_47 : decode cX1_word 47 = .ok (.getfield 63, 3) := dk_180 0 63 (dk_at dksX1_word_2 0 rfl rfl)
theorem dX1_word_50 : decode cX1_word 50 = .ok (.aload_n 0, 1) := dk_42 (dk_at dksX1_word_2 3 rfl rfl)
theorem dX1_word_51 : decode cX1_word 51 = .ok (.invokevirtual 122, 3) := dk_182 0 122 (dk_at dksX1_word_2 4 rfl rfl)
theorem dX1_word_54 : decode cX1_word 54 = .ok (.invokeinterface 128 2, 5) := by decide +kernel
theorem dX1_word_59 : decode cX1_word 59 = .ok (.pop, 1) := dk_87 (dk_at dksX1_word_2 12 rfl rfl)
theorem dX1_word_60 : decode cX1_word 60 = .ok (.aload_n 0, 1) := dk_42 (dk_at dksX1_word_2 13 rfl rfl)
theorem dX1_word_61 : decode cX1_word 61 = .ok (.getfield 63, 3) := dk_180 0 63 (dk_at dksX1_word_2 14 rfl rfl)
theorem dX1_word_64 : decode cX1_word 64 = .ok (.invokeinterface 115 1, 5) := by decide +kernel
theorem dX1_word_69 : decode cX1_word 69 = .ok (.ireturn, 1) := dk_172 (dk_at dksX1_word_2 22 rfl rfl)
abbrev cX1_lock : ByteArray := prog_1_method_15_code
def yX1_lock : MethodName := ⟨RX1, "lock", "(II)I"⟩
def dkwX1_lock_1 : List UInt8 := [180, 0, 66, 27, 46, 62, 42, 180, 0, 66, 27, 28, 79, 29, 172]
abbrev dktX1_lock_1 : List UInt8 := dkwX1_lock_1 ++ []
def dkwX1_lock_0 : List UInt8 := [27, 42, 180, 0, 63, 185, 0, 115, 1, 0, 184, 0, 111, 28, 4, 96, 16, 6, 184, 0, 111, 42]
abbrev dktX1_lock_0 : List UInt8 := dkwX1_lock_0 ++ dktX1_lock_1
theorem dksX1_lock_0 : cX1_lock.data.toList.drop 0 = dktX1_lock_0 := by decide +kernel
theorem dksX1_lock_1 : cX1_lock.data.toList.drop 22 = dktX1_lock_1 := dk_seg dksX1_lock_0 22 rfl rfl
theorem dX1_lock_0 : decode cX1_lock 0 = .ok (.iload_n 1, 1) := dk_27 (dk_at dksX1_lock_0 0 rfl rfl)
theorem dX1_lock_1 : decode cX1_lock 1 = .ok (.aload_n 0, 1) := dk_42 (dk_at dksX1_lock_0 1 rfl rfl)
theorem dX1_lock_2 : decode cX1_lock 2 = .ok (.getfield 63, 3) := dk_180 0 63 (dk_at dksX1_lock_0 2 rfl rfl)
theorem dX1_lock_5 : decode cX1_lock 5 = .ok (.invokeinterface 115 1, 5) := by decide +kernel
theorem dX1_lock_10 : decode cX1_lock 10 = .ok (.invokestatic 111, 3) := dk_184 0 111 (dk_at dksX1_lock_0 10 rfl rfl)
theorem dX1_lock_13 : decode cX1_lock 13 = .ok (.iload_n 2, 1) := dk_28 (dk_at dksX1_lock_0 13 rfl rfl)
theorem dX1_lock_14 : decode cX1_lock 14 = .ok (.iconst 1, 1) := dk_4 (dk_at dksX1_lock_0 14 rfl rfl)
theorem dX1_lock_15 : decode cX1_lock 15 = .ok (.iadd, 1) := dk_96 (dk_at dksX1_lock_0 15 rfl rfl)
theorem dX1_lock_16 : decode cX1_lock 16 = .ok (.bipush 6, 2) := dk_16 6 (dk_at dksX1_lock_0 16 rfl rfl)
theorem dX1_lock_18 : decode cX1_lock 18 = .ok (.invokestatic 111, 3) := dk_184 0 111 (dk_at dksX1_lock_0 18 rfl rfl)
theorem dX1_lock_21 : decode cX1_lock 21 = .ok (.aload_n 0, 1) := dk_42 (dk_at dksX1_lock_0 21 rfl rfl)
theorem dX1_lock_22 : decode cX1_lock 22 = .ok (.getfield 66, 3) := dk_180 0 66 (dk_at dksX1_lock_1 0 rfl rfl)
theorem dX1_lock_25 : decode cX1_lock 25 = .ok (.iload_n 1, 1) := dk_27 (dk_at dksX1_lock_1 3 rfl rfl)
theorem dX1_lock_26 : decode cX1_lock 26 = .ok (.iaload, 1) := dk_46 (dk_at dksX1_lock_1 4 rfl rfl)
theorem dX1_lock_27 : decode cX1_lock 27 = .ok (.istore_n 3, 1) := dk_62 (dk_at dksX1_lock_1 5 rfl rfl)
theorem dX1_lock_28 : decode cX1_lock 28 = .ok (.aload_n 0, 1) := dk_42 (dk_at dksX1_lock_1 6 rfl rfl)
theorem dX1_lock_29 : decode cX1_lock 29 = .ok (.getfield 66, 3) := dk_180 0 66 (dk_at dksX1_lock_1 7 rfl rfl)
theorem dX1_lock_32 : decode cX1_lock 32 = .ok (.iload_n 1, 1) := dk_27 (dk_at dksX1_lock_1 10 rfl rfl)
theorem dX1_lock_33 : decode cX1_lock 33 = .ok (.iload_n 2, 1) := dk_28 (dk_at dksX1_lock_1 11 rfl rfl)
theorem dX1_lock_34 : decode cX1_lock 34 = .ok (.iastore, 1) := dk_79 (dk_at dksX1_lock_1 12 rfl rfl)
theorem dX1_lock_35 : decode cX1_lock 35 = .ok (.iload_n 3, 1) := dk_29 (dk_at dksX1_lock_1 13 rfl rfl)
theorem dX1_lock_36 : decode cX1_lock 36 = .ok (.ireturn, 1) := dk_172 (dk_at dksX1_lock_1 14 rfl rfl)
abbrev cX1_weight : ByteArray := prog_1_method_16_code
def yX1_weight : MethodName := ⟨RX1, "weight", "(I)I"⟩
def dkwX1_weight_1 : List UInt8 := [42, 180, 0, 71, 27, 182, 0, 182, 172]
abbrev dktX1_weight_1 : List UInt8 := dkwX1_weight_1 ++ []
def dkwX1_weight_0 : List UInt8 := [27, 8, 184, 0, 111, 42, 180, 0, 71, 182, 0, 7, 158, 0, 7, 4, 167, 0, 4, 3, 184, 0, 100, 42]
abbrev dktX1_weight_0 : List UInt8 := dkwX1_weight_0 ++ dktX1_weight_1
theorem dksX1_weight_0 : cX1_weight.data.toList.drop 0 = dktX1_weight_0 := by decide +kernel
theorem dksX1_weight_1 : cX1_weight.data.toList.drop 24 = dktX1_weight_1 := dk_seg dksX1_weight_0 24 rfl rfl
theorem dX1_weight_0 : decode cX1_weight 0 = .ok (.iload_n 1, 1) := dk_27 (dk_at dksX1_weight_0 0 rfl rfl)
theorem dX1_weight_1 : decode cX1_weight 1 = .ok (.iconst 5, 1) := dk_8 (dk_at dksX1_weight_0 1 rfl rfl)
theorem dX1_weight_2 : decode cX1_weight 2 = .ok (.invokestatic 111, 3) := dk_184 0 111 (dk_at dksX1_weight_0 2 rfl rfl)
theorem dX1_weight_5 : decode cX1_weight 5 = .ok (.aload_n 0, 1) := dk_42 (dk_at dksX1_weight_0 5 rfl rfl)
theorem dX1_weight_6 : decode cX1_weight 6 = .ok (.getfield 71, 3) := dk_180 0 71 (dk_at dksX1_weight_0 6 rfl rfl)
theorem dX1_weight_9 : decode cX1_weight 9 = .ok (.invokevirtual 7, 3) := dk_182 0 7 (dk_at dksX1_weight_0 9 rfl rfl)
theorem dX1_weight_12 : decode cX1_weight 12 = .ok (.ifCond .le 7, 3) := dk_158 0 7 (dk_at dksX1_weight_0 12 rfl rfl)
theorem dX1_weight_15 : decode cX1_weight 15 = .ok (.iconst 1, 1) := dk_4 (dk_at dksX1_weight_0 15 rfl rfl)
theorem dX1_weight_16 : decode cX1_weight 16 = .ok (.goto 4, 3) := dk_167 0 4 (dk_at dksX1_weight_0 16 rfl rfl)
theorem dX1_weight_19 : decode cX1_weight 19 = .ok (.iconst 0, 1) := dk_3 (dk_at dksX1_weight_0 19 rfl rfl)
theorem dX1_weight_20 : decode cX1_weight 20 = .ok (.invokestatic 100, 3) := dk_184 0 100 (dk_at dksX1_weight_0 20 rfl rfl)
theorem dX1_weight_23 : decode cX1_weight 23 = .ok (.aload_n 0, 1) := dk_42 (dk_at dksX1_weight_0 23 rfl rfl)
theorem dX1_weight_24 : decode cX1_weight 24 = .ok (.aload_n 0, 1) := dk_42 (dk_at dksX1_weight_1 0 rfl rfl)
theorem dX1_weight_25 : decode cX1_weight 25 = .ok (.getfield 71, 3) := dk_180 0 71 (dk_at dksX1_weight_1 1 rfl rfl)
theorem dX1_weight_28 : decode cX1_weight 28 = .ok (.iload_n 1, 1) := dk_27 (dk_at dksX1_weight_1 4 rfl rfl)
theorem dX1_weight_29 : decode cX1_weight 29 = .ok (.invokevirtual 182, 3) := dk_182 0 182 (dk_at dksX1_weight_1 5 rfl rfl)
theorem dX1_weight_32 : decode cX1_weight 32 = .ok (.ireturn, 1) := dk_172 (dk_at dksX1_weight_1 8 rfl rfl)
abbrev cX1_weightOf : ByteArray := prog_1_method_6_code
def yX1_weightOf : MethodName := ⟨RX1, "weightOf", "(Ljava/lang/String;I)I"⟩
def dkwX1_weightOf_2 : List UInt8 := [182, 0, 90, 172]
abbrev dktX1_weightOf_2 : List UInt8 := dkwX1_weightOf_2 ++ []
def dkwX1_weightOf_1 : List UInt8 := [180, 0, 40, 43, 182, 0, 89, 78, 45, 199, 0, 7, 4, 167, 0, 12, 42, 180, 0, 40, 45, 28]
abbrev dktX1_weightOf_1 : List UInt8 := dkwX1_weightOf_1 ++ dktX1_weightOf_2
def dkwX1_weightOf_0 : List UInt8 := [42, 180, 0, 31, 43, 182, 0, 81, 78, 45, 198, 0, 13, 42, 180, 0, 31, 45, 28, 182, 0, 85, 172, 42]
abbrev dktX1_weightOf_0 : List UInt8 := dkwX1_weightOf_0 ++ dktX1_weightOf_1
theorem dksX1_weightOf_0 : cX1_weightOf.data.toList.drop 0 = dktX1_weightOf_0 := by decide +kernel
theorem dksX1_weightOf_1 : cX1_weightOf.data.toList.drop 24 = dktX1_weightOf_1 := dk_seg dksX1_weightOf_0 24 rfl rfl
theorem dksX1_weightOf_2 : cX1_weightOf.data.toList.drop 46 = dktX1_weightOf_2 := dk_seg dksX1_weightOf_1 22 rfl rfl
theorem dX1_weightOf_0 : decode cX1_weightOf 0 = .ok (.aload_n 0, 1) := dk_42 (dk_at dksX1_weightOf_0 0 rfl rfl)
theorem dX1_weightOf_1 : decode cX1_weightOf 1 = .ok (.getfield 31, 3) := dk_180 0 31 (dk_at dksX1_weightOf_0 1 rfl rfl)
theorem dX1_weightOf_4 : decode cX1_weightOf 4 = .ok (.aload_n 1, 1) := dk_43 (dk_at dksX1_weightOf_0 4 rfl rfl)
theorem dX1_weightOf_5 : decode cX1_weightOf 5 = .ok (.invokevirtual 81, 3) := dk_182 0 81 (dk_at dksX1_weightOf_0 5 rfl rfl)
theorem dX1_weightOf_8 : decode cX1_weightOf 8 = .ok (.astore_n 3, 1) := dk_78 (dk_at dksX1_weightOf_0 8 rfl rfl)
theorem dX1_weightOf_9 : decode cX1_weightOf 9 = .ok (.aload_n 3, 1) := dk_45 (dk_at dksX1_weightOf_0 9 rfl rfl)
theorem dX1_weightOf_10 : decode cX1_weightOf 10 = .ok (.ifnull 13, 3) := dk_198 0 13 (dk_at dksX1_weightOf_0 10 rfl rfl)
theorem dX1_weightOf_13 : decode cX1_weightOf 13 = .ok (.aload_n 0, 1) := dk_42 (dk_at dksX1_weightOf_0 13 rfl rfl)
theorem dX1_weightOf_14 : decode cX1_weightOf 14 = .ok (.getfield 31, 3) := dk_180 0 31 (dk_at dksX1_weightOf_0 14 rfl rfl)
theorem dX1_weightOf_17 : decode cX1_weightOf 17 = .ok (.aload_n 3, 1) := dk_45 (dk_at dksX1_weightOf_0 17 rfl rfl)
theorem dX1_weightOf_18 : decode cX1_weightOf 18 = .ok (.iload_n 2, 1) := dk_28 (dk_at dksX1_weightOf_0 18 rfl rfl)
theorem dX1_weightOf_19 : decode cX1_weightOf 19 = .ok (.invokevirtual 85, 3) := dk_182 0 85 (dk_at dksX1_weightOf_0 19 rfl rfl)
theorem dX1_weightOf_22 : decode cX1_weightOf 22 = .ok (.ireturn, 1) := dk_172 (dk_at dksX1_weightOf_0 22 rfl rfl)
theorem dX1_weightOf_23 : decode cX1_weightOf 23 = .ok (.aload_n 0, 1) := dk_42 (dk_at dksX1_weightOf_0 23 rfl rfl)
theorem dX1_weightOf_24 : decode cX1_weightOf 24 = .ok (.getfield 40, 3) := dk_180 0 40 (dk_at dksX1_weightOf_1 0 rfl rfl)
theorem dX1_weightOf_27 : decode cX1_weightOf 27 = .ok (.aload_n 1, 1) := dk_43 (dk_at dksX1_weightOf_1 3 rfl rfl)
theorem dX1_weightOf_28 : decode cX1_weightOf 28 = .ok (.invokevirtual 89, 3) := dk_182 0 89 (dk_at dksX1_weightOf_1 4 rfl rfl)
theorem dX1_weightOf_31 : decode cX1_weightOf 31 = .ok (.astore_n 3, 1) := dk_78 (dk_at dksX1_weightOf_1 7 rfl rfl)
theorem dX1_weightOf_32 : decode cX1_weightOf 32 = .ok (.aload_n 3, 1) := dk_45 (dk_at dksX1_weightOf_1 8 rfl rfl)
theorem dX1_weightOf_33 : decode cX1_weightOf 33 = .ok (.ifnonnull 7, 3) := dk_199 0 7 (dk_at dksX1_weightOf_1 9 rfl rfl)
theorem dX1_weightOf_36 : decode cX1_weightOf 36 = .ok (.iconst 1, 1) := dk_4 (dk_at dksX1_weightOf_1 12 rfl rfl)
theorem dX1_weightOf_37 : decode cX1_weightOf 37 = .ok (.goto 12, 3) := dk_167 0 12 (dk_at dksX1_weightOf_1 13 rfl rfl)
theorem dX1_weightOf_40 : decode cX1_weightOf 40 = .ok (.aload_n 0, 1) := dk_42 (dk_at dksX1_weightOf_1 16 rfl rfl)
theorem dX1_weightOf_41 : decode cX1_weightOf 41 = .ok (.getfield 40, 3) := dk_180 0 40 (dk_at dksX1_weightOf_1 17 rfl rfl)
theorem dX1_weightOf_44 : decode cX1_weightOf 44 = .ok (.aload_n 3, 1) := dk_45 (dk_at dksX1_weightOf_1 20 rfl rfl)
theorem dX1_weightOf_45 : decode cX1_weightOf 45 = .ok (.iload_n 2, 1) := dk_28 (dk_at dksX1_weightOf_1 21 rfl rfl)
theorem dX1_weightOf_46 : decode cX1_weightOf 46 = .ok (.invokevirtual 90, 3) := dk_182 0 90 (dk_at dksX1_weightOf_2 0 rfl rfl)
theorem dX1_weightOf_49 : decode cX1_weightOf 49 = .ok (.ireturn, 1) := dk_172 (dk_at dksX1_weightOf_2 3 rfl rfl)
abbrev cX1_step : ByteArray := prog_1_method_17_code
def yX1_step : MethodName := ⟨RX1, "step", "(II)I"⟩
def dkwX1_step_0 : List UInt8 := [27, 4, 96, 16, 6, 184, 0, 111, 28, 8, 184, 0, 111, 42, 27, 28, 182, 0, 186, 172]
abbrev dktX1_step_0 : List UInt8 := dkwX1_step_0 ++ []
theorem dksX1_step_0 : cX1_step.data.toList.drop 0 = dktX1_step_0 := by decide +kernel
theorem dX1_step_0 : decode cX1_step 0 = .ok (.iload_n 1, 1) := dk_27 (dk_at dksX1_step_0 0 rfl rfl)
theorem dX1_step_1 : decode cX1_step 1 = .ok (.iconst 1, 1) := dk_4 (dk_at dksX1_step_0 1 rfl rfl)
theorem dX1_step_2 : decode cX1_step 2 = .ok (.iadd, 1) := dk_96 (dk_at dksX1_step_0 2 rfl rfl)
theorem dX1_step_3 : decode cX1_step 3 = .ok (.bipush 6, 2) := dk_16 6 (dk_at dksX1_step_0 3 rfl rfl)
theorem dX1_step_5 : decode cX1_step 5 = .ok (.invokestatic 111, 3) := dk_184 0 111 (dk_at dksX1_step_0 5 rfl rfl)
theorem dX1_step_8 : decode cX1_step 8 = .ok (.iload_n 2, 1) := dk_28 (dk_at dksX1_step_0 8 rfl rfl)
theorem dX1_step_9 : decode cX1_step 9 = .ok (.iconst 5, 1) := dk_8 (dk_at dksX1_step_0 9 rfl rfl)
theorem dX1_step_10 : decode cX1_step 10 = .ok (.invokestatic 111, 3) := dk_184 0 111 (dk_at dksX1_step_0 10 rfl rfl)
theorem dX1_step_13 : decode cX1_step 13 = .ok (.aload_n 0, 1) := dk_42 (dk_at dksX1_step_0 13 rfl rfl)
theorem dX1_step_14 : decode cX1_step 14 = .ok (.iload_n 1, 1) := dk_27 (dk_at dksX1_step_0 14 rfl rfl)
theorem dX1_step_15 : decode cX1_step 15 = .ok (.iload_n 2, 1) := dk_28 (dk_at dksX1_step_0 15 rfl rfl)
theorem dX1_step_16 : decode cX1_step 16 = .ok (.invokevirtual 186, 3) := dk_182 0 186 (dk_at dksX1_step_0 16 rfl rfl)
theorem dX1_step_19 : decode cX1_step 19 = .ok (.ireturn, 1) := dk_172 (dk_at dksX1_step_0 19 rfl rfl)
abbrev cX1_stepOf : ByteArray := prog_1_method_7_code
def yX1_stepOf : MethodName := ⟨RX1, "stepOf", "(II)I"⟩
def dkwX1_stepOf_1 : List UInt8 := [4, 96, 184, 0, 91, 172]
abbrev dktX1_stepOf_1 : List UInt8 := dkwX1_stepOf_1 ++ []
def dkwX1_stepOf_0 : List UInt8 := [16, 7, 27, 2, 160, 0, 12, 42, 180, 0, 49, 28, 46, 167, 0, 11, 42, 180, 0, 46, 27, 50, 28, 46]
abbrev dktX1_stepOf_0 : List UInt8 := dkwX1_stepOf_0 ++ dktX1_stepOf_1
theorem dksX1_stepOf_0 : cX1_stepOf.data.toList.drop 0 = dktX1_stepOf_0 := by decide +kernel
theorem dksX1_stepOf_1 : cX1_stepOf.data.toList.drop 24 = dktX1_stepOf_1 := dk_seg dksX1_stepOf_0 24 rfl rfl
theorem dX1_stepOf_0 : decode cX1_stepOf 0 = .ok (.bipush 7, 2) := dk_16 7 (dk_at dksX1_stepOf_0 0 rfl rfl)
theorem dX1_stepOf_2 : decode cX1_stepOf 2 = .ok (.iload_n 1, 1) := dk_27 (dk_at dksX1_stepOf_0 2 rfl rfl)
theorem dX1_stepOf_3 : decode cX1_stepOf 3 = .ok (.iconst (-1), 1) := dk_2 (dk_at dksX1_stepOf_0 3 rfl rfl)
theorem dX1_stepOf_4 : decode cX1_stepOf 4 = .ok (.if_icmp .ne 12, 3) := dk_160 0 12 (dk_at dksX1_stepOf_0 4 rfl rfl)
theorem dX1_stepOf_7 : decode cX1_stepOf 7 = .ok (.aload_n 0, 1) := dk_42 (dk_at dksX1_stepOf_0 7 rfl rfl)
theorem dX1_stepOf_8 : decode cX1_stepOf 8 = .ok (.getfield 49, 3) := dk_180 0 49 (dk_at dksX1_stepOf_0 8 rfl rfl)
theorem dX1_stepOf_11 : decode cX1_stepOf 11 = .ok (.iload_n 2, 1) := dk_28 (dk_at dksX1_stepOf_0 11 rfl rfl)
theorem dX1_stepOf_12 : decode cX1_stepOf 12 = .ok (.iaload, 1) := dk_46 (dk_at dksX1_stepOf_0 12 rfl rfl)
theorem dX1_stepOf_13 : decode cX1_stepOf 13 = .ok (.goto 11, 3) := dk_167 0 11 (dk_at dksX1_stepOf_0 13 rfl rfl)
theorem dX1_stepOf_16 : decode cX1_stepOf 16 = .ok (.aload_n 0, 1) := dk_42 (dk_at dksX1_stepOf_0 16 rfl rfl)
theorem dX1_stepOf_17 : decode cX1_stepOf 17 = .ok (.getfield 46, 3) := dk_180 0 46 (dk_at dksX1_stepOf_0 17 rfl rfl)
theorem dX1_stepOf_20 : decode cX1_stepOf 20 = .ok (.iload_n 1, 1) := dk_27 (dk_at dksX1_stepOf_0 20 rfl rfl)
theorem dX1_stepOf_21 : decode cX1_stepOf 21 = .ok (.aaload, 1) := dk_50 (dk_at dksX1_stepOf_0 21 rfl rfl)
theorem dX1_stepOf_22 : decode cX1_stepOf 22 = .ok (.iload_n 2, 1) := dk_28 (dk_at dksX1_stepOf_0 22 rfl rfl)
theorem dX1_stepOf_23 : decode cX1_stepOf 23 = .ok (.iaload, 1) := dk_46 (dk_at dksX1_stepOf_0 23 rfl rfl)
theorem dX1_stepOf_24 : decode cX1_stepOf 24 = .ok (.iconst 1, 1) := dk_4 (dk_at dksX1_stepOf_1 0 rfl rfl)
theorem dX1_stepOf_25 : decode cX1_stepOf 25 = .ok (.iadd, 1) := dk_96 (dk_at dksX1_stepOf_1 1 rfl rfl)
theorem dX1_stepOf_26 : decode cX1_stepOf 26 = .ok (.invokestatic 91, 3) := dk_184 0 91 (dk_at dksX1_stepOf_1 2 rfl rfl)
theorem dX1_stepOf_29 : decode cX1_stepOf 29 = .ok (.ireturn, 1) := dk_172 (dk_at dksX1_stepOf_1 5 rfl rfl)
abbrev cX1_path : ByteArray := prog_1_method_18_code
def yX1_path : MethodName := ⟨RX1, "path", "(II)I"⟩
def dkwX1_path_2 : List UInt8 := [45, 27, 185, 0, 175, 2, 0, 192, 0, 198, 180, 0, 200, 28, 46, 172]
abbrev dktX1_path_2 : List UInt8 := dkwX1_path_2 ++ []
def dkwX1_path_1 : List UInt8 := [183, 0, 191, 27, 4, 96, 182, 0, 194, 78, 45, 185, 0, 115, 1, 0, 27, 163, 0, 7, 2, 167, 0, 18]
abbrev dktX1_path_1 : List UInt8 := dkwX1_path_1 ++ dktX1_path_2
def dkwX1_path_0 : List UInt8 := [27, 16, 10, 184, 0, 111, 28, 42, 180, 0, 63, 185, 0, 115, 1, 0, 184, 0, 111, 187, 0, 189, 89, 42]
abbrev dktX1_path_0 : List UInt8 := dkwX1_path_0 ++ dktX1_path_1
theorem dksX1_path_0 : cX1_path.data.toList.drop 0 = dktX1_path_0 := by decide +kernel
theorem dksX1_path_1 : cX1_path.data.toList.drop 24 = dktX1_path_1 := dk_seg dksX1_path_0 24 rfl rfl
theorem dksX1_path_2 : cX1_path.data.toList.drop 48 = dktX1_path_2 := dk_seg dksX1_path_1 24 rfl rfl
theorem dX1_path_0 : decode cX1_path 0 = .ok (.iload_n 1, 1) := dk_27 (dk_at dksX1_path_0 0 rfl rfl)
theorem dX1_path_1 : decode cX1_path 1 = .ok (.bipush 10, 2) := dk_16 10 (dk_at dksX1_path_0 1 rfl rfl)
theorem dX1_path_3 : decode cX1_path 3 = .ok (.invokestatic 111, 3) := dk_184 0 111 (dk_at dksX1_path_0 3 rfl rfl)
theorem dX1_path_6 : decode cX1_path 6 = .ok (.iload_n 2, 1) := dk_28 (dk_at dksX1_path_0 6 rfl rfl)
theorem dX1_path_7 : decode cX1_path 7 = .ok (.aload_n 0, 1) := dk_42 (dk_at dksX1_path_0 7 rfl rfl)
theorem dX1_path_8 : decode cX1_path 8 = .ok (.getfield 63, 3) := dk_180 0 63 (dk_at dksX1_path_0 8 rfl rfl)
theorem dX1_path_11 : decode cX1_path 11 = .ok (.invokeinterface 115 1, 5) := by decide +kernel
theorem dX1_path_16 : decode cX1_path 16 = .ok (.invokestatic 111, 3) := dk_184 0 111 (dk_at dksX1_path_0 16 rfl rfl)
theorem dX1_path_19 : decode cX1_path 19 = .ok (.new 189, 3) := dk_187 0 189 (dk_at dksX1_path_0 19 rfl rfl)
theorem dX1_path_22 : decode cX1_path 22 = .ok (.dup, 1) := dk_89 (dk_at dksX1_path_0 22 rfl rfl)
theorem dX1_path_23 : decode cX1_path 23 = .ok (.aload_n 0, 1) := dk_42 (dk_at dksX1_path_0 23 rfl rfl)
theorem dX1_path_24 : decode cX1_path 24 = .ok (.invokespecial 191, 3) := dk_183 0 191 (dk_at dksX1_path_1 0 rfl rfl)
theorem dX1_path_27 : decode cX1_path 27 = .ok (.iload_n 1, 1) := dk_27 (dk_at dksX1_path_1 3 rfl rfl)
theorem dX1_path_28 : decode cX1_path 28 = .ok (.iconst 1, 1) := dk_4 (dk_at dksX1_path_1 4 rfl rfl)
theorem dX1_path_29 : decode cX1_path 29 = .ok (.iadd, 1) := dk_96 (dk_at dksX1_path_1 5 rfl rfl)
theorem dX1_path_30 : decode cX1_path 30 = .ok (.invokevirtual 194, 3) := dk_182 0 194 (dk_at dksX1_path_1 6 rfl rfl)
theorem dX1_path_33 : decode cX1_path 33 = .ok (.astore_n 3, 1) := dk_78 (dk_at dksX1_path_1 9 rfl rfl)
theorem dX1_path_34 : decode cX1_path 34 = .ok (.aload_n 3, 1) := dk_45 (dk_at dksX1_path_1 10 rfl rfl)
theorem dX1_path_35 : decode cX1_path 35 = .ok (.invokeinterface 115 1, 5) := by decide +kernel
theorem dX1_path_40 : decode cX1_path 40 = .ok (.iload_n 1, 1) := dk_27 (dk_at dksX1_path_1 16 rfl rfl)
theorem dX1_path_41 : decode cX1_path 41 = .ok (.if_icmp .gt 7, 3) := dk_163 0 7 (dk_at dksX1_path_1 17 rfl rfl)
theorem dX1_path_44 : decode cX1_path 44 = .ok (.iconst (-1), 1) := dk_2 (dk_at dksX1_path_1 20 rfl rfl)
theorem dX1_path_45 : decode cX1_path 45 = .ok (.goto 18, 3) := dk_167 0 18 (dk_at dksX1_path_1 21 rfl rfl)
theorem dX1_path_48 : decode cX1_path 48 = .ok (.aload_n 3, 1) := dk_45 (dk_at dksX1_path_2 0 rfl rfl)
theorem dX1_path_49 : decode cX1_path 49 = .ok (.iload_n 1, 1) := dk_27 (dk_at dksX1_path_2 1 rfl rfl)
theorem dX1_path_50 : decode cX1_path 50 = .ok (.invokeinterface 175 2, 5) := by decide +kernel
theorem dX1_path_55 : decode cX1_path 55 = .ok (.checkcast 198, 3) := dk_192 0 198 (dk_at dksX1_path_2 7 rfl rfl)
theorem dX1_path_58 : decode cX1_path 58 = .ok (.getfield 200, 3) := dk_180 0 200 (dk_at dksX1_path_2 10 rfl rfl)
theorem dX1_path_61 : decode cX1_path 61 = .ok (.iload_n 2, 1) := dk_28 (dk_at dksX1_path_2 13 rfl rfl)
theorem dX1_path_62 : decode cX1_path 62 = .ok (.iaload, 1) := dk_46 (dk_at dksX1_path_2 14 rfl rfl)
theorem dX1_path_63 : decode cX1_path 63 = .ok (.ireturn, 1) := dk_172 (dk_at dksX1_path_2 15 rfl rfl)
abbrev cX1_pathAnew : ByteArray := prog_1_method_19_code
def yX1_pathAnew : MethodName := ⟨RX1, "pathAnew", "(II)I"⟩
def dkwX1_pathAnew_3 : List UInt8 := [192, 0, 198, 180, 0, 200, 28, 46, 172]
abbrev dktX1_pathAnew_3 : List UInt8 := dkwX1_pathAnew_3 ++ []
def dkwX1_pathAnew_2 : List UInt8 := [185, 0, 115, 1, 0, 27, 163, 0, 7, 2, 167, 0, 21, 45, 180, 0, 212, 27, 185, 0, 175, 2, 0]
abbrev dktX1_pathAnew_2 : List UInt8 := dkwX1_pathAnew_2 ++ dktX1_pathAnew_3
def dkwX1_pathAnew_1 : List UInt8 := [187, 0, 189, 89, 42, 183, 0, 191, 28, 183, 0, 205, 78, 45, 3, 10, 182, 0, 208, 45, 180, 0, 212]
abbrev dktX1_pathAnew_1 : List UInt8 := dkwX1_pathAnew_1 ++ dktX1_pathAnew_2
def dkwX1_pathAnew_0 : List UInt8 := [27, 16, 10, 184, 0, 111, 28, 42, 180, 0, 63, 185, 0, 115, 1, 0, 184, 0, 111, 187, 0, 203, 89]
abbrev dktX1_pathAnew_0 : List UInt8 := dkwX1_pathAnew_0 ++ dktX1_pathAnew_1
theorem dksX1_pathAnew_0 : cX1_pathAnew.data.toList.drop 0 = dktX1_pathAnew_0 := by decide +kernel
theorem dksX1_pathAnew_1 : cX1_pathAnew.data.toList.drop 23 = dktX1_pathAnew_1 := dk_seg dksX1_pathAnew_0 23 rfl rfl
theorem dksX1_pathAnew_2 : cX1_pathAnew.data.toList.drop 46 = dktX1_pathAnew_2 := dk_seg dksX1_pathAnew_1 23 rfl rfl
theorem dksX1_pathAnew_3 : cX1_pathAnew.data.toList.drop 69 = dktX1_pathAnew_3 := dk_seg dksX1_pathAnew_2 23 rfl rfl
theorem dX1_pathAnew_0 : decode cX1_pathAnew 0 = .ok (.iload_n 1, 1) := dk_27 (dk_at dksX1_pathAnew_0 0 rfl rfl)
theorem dX1_pathAnew_1 : decode cX1_pathAnew 1 = .ok (.bipush 10, 2) := dk_16 10 (dk_at dksX1_pathAnew_0 1 rfl rfl)
theorem dX1_pathAnew_3 : decode cX1_pathAnew 3 = .ok (.invokestatic 111, 3) := dk_184 0 111 (dk_at dksX1_pathAnew_0 3 rfl rfl)
theorem dX1_pathAnew_6 : decode cX1_pathAnew 6 = .ok (.iload_n 2, 1) := dk_28 (dk_at dksX1_pathAnew_0 6 rfl rfl)
theorem dX1_pathAnew_7 : decode cX1_pathAnew 7 = .ok (.aload_n 0, 1) := dk_42 (dk_at dksX1_pathAnew_0 7 rfl rfl)
theorem dX1_pathAnew_8 : decode cX1_pathAnew 8 = .ok (.getfield 63, 3) := dk_180 0 63 (dk_at dksX1_pathAnew_0 8 rfl rfl)
theorem dX1_pathAnew_11 : decode cX1_pathAnew 11 = .ok (.invokeinterface 115 1, 5) := by decide +kernel
theorem dX1_pathAnew_16 : decode cX1_pathAnew 16 = .ok (.invokestatic 111, 3) := dk_184 0 111 (dk_at dksX1_pathAnew_0 16 rfl rfl)
theorem dX1_pathAnew_19 : decode cX1_pathAnew 19 = .ok (.new 203, 3) := dk_187 0 203 (dk_at dksX1_pathAnew_0 19 rfl rfl)
theorem dX1_pathAnew_22 : decode cX1_pathAnew 22 = .ok (.dup, 1) := dk_89 (dk_at dksX1_pathAnew_0 22 rfl rfl)
theorem dX1_pathAnew_23 : decode cX1_pathAnew 23 = .ok (.new 189, 3) := dk_187 0 189 (dk_at dksX1_pathAnew_1 0 rfl rfl)
theorem dX1_pathAnew_26 : decode cX1_pathAnew 26 = .ok (.dup, 1) := dk_89 (dk_at dksX1_pathAnew_1 3 rfl rfl)
theorem dX1_pathAnew_27 : decode cX1_pathAnew 27 = .ok (.aload_n 0, 1) := dk_42 (dk_at dksX1_pathAnew_1 4 rfl rfl)
theorem dX1_pathAnew_28 : decode cX1_pathAnew 28 = .ok (.invokespecial 191, 3) := dk_183 0 191 (dk_at dksX1_pathAnew_1 5 rfl rfl)
theorem dX1_pathAnew_31 : decode cX1_pathAnew 31 = .ok (.iload_n 2, 1) := dk_28 (dk_at dksX1_pathAnew_1 8 rfl rfl)
theorem dX1_pathAnew_32 : decode cX1_pathAnew 32 = .ok (.invokespecial 205, 3) := dk_183 0 205 (dk_at dksX1_pathAnew_1 9 rfl rfl)
theorem dX1_pathAnew_35 : decode cX1_pathAnew 35 = .ok (.astore_n 3, 1) := dk_78 (dk_at dksX1_pathAnew_1 12 rfl rfl)
theorem dX1_pathAnew_36 : decode cX1_pathAnew 36 = .ok (.aload_n 3, 1) := dk_45 (dk_at dksX1_pathAnew_1 13 rfl rfl)
theorem dX1_pathAnew_37 : decode cX1_pathAnew 37 = .ok (.iconst 0, 1) := dk_3 (dk_at dksX1_pathAnew_1 14 rfl rfl)
theorem dX1_pathAnew_38 : decode cX1_pathAnew 38 = .ok (.lconst 1, 1) := dk_10 (dk_at dksX1_pathAnew_1 15 rfl rfl)
theorem dX1_pathAnew_39 : decode cX1_pathAnew 39 = .ok (.invokevirtual 208, 3) := dk_182 0 208 (dk_at dksX1_pathAnew_1 16 rfl rfl)
theorem dX1_pathAnew_42 : decode cX1_pathAnew 42 = .ok (.aload_n 3, 1) := dk_45 (dk_at dksX1_pathAnew_1 19 rfl rfl)
theorem dX1_pathAnew_43 : decode cX1_pathAnew 43 = .ok (.getfield 212, 3) := dk_180 0 212 (dk_at dksX1_pathAnew_1 20 rfl rfl)
theorem dX1_pathAnew_46 : decode cX1_pathAnew 46 = .ok (.invokeinterface 115 1, 5) := by decide +kernel
theorem dX1_pathAnew_51 : decode cX1_pathAnew 51 = .ok (.iload_n 1, 1) := dk_27 (dk_at dksX1_pathAnew_2 5 rfl rfl)
theorem dX1_pathAnew_52 : decode cX1_pathAnew 52 = .ok (.if_icmp .gt 7, 3) := dk_163 0 7 (dk_at dksX1_pathAnew_2 6 rfl rfl)
theorem dX1_pathAnew_55 : decode cX1_pathAnew 55 = .ok (.iconst (-1), 1) := dk_2 (dk_at dksX1_pathAnew_2 9 rfl rfl)
theorem dX1_pathAnew_56 : decode cX1_pathAnew 56 = .ok (.goto 21, 3) := dk_167 0 21 (dk_at dksX1_pathAnew_2 10 rfl rfl)
theorem dX1_pathAnew_59 : decode cX1_pathAnew 59 = .ok (.aload_n 3, 1) := dk_45 (dk_at dksX1_pathAnew_2 13 rfl rfl)
theorem dX1_pathAnew_60 : decode cX1_pathAnew 60 = .ok (.getfield 212, 3) := dk_180 0 212 (dk_at dksX1_pathAnew_2 14 rfl rfl)
theorem dX1_pathAnew_63 : decode cX1_pathAnew 63 = .ok (.iload_n 1, 1) := dk_27 (dk_at dksX1_pathAnew_2 17 rfl rfl)
theorem dX1_pathAnew_64 : decode cX1_pathAnew 64 = .ok (.invokeinterface 175 2, 5) := by decide +kernel
theorem dX1_pathAnew_69 : decode cX1_pathAnew 69 = .ok (.checkcast 198, 3) := dk_192 0 198 (dk_at dksX1_pathAnew_3 0 rfl rfl)
theorem dX1_pathAnew_72 : decode cX1_pathAnew 72 = .ok (.getfield 200, 3) := dk_180 0 200 (dk_at dksX1_pathAnew_3 3 rfl rfl)
theorem dX1_pathAnew_75 : decode cX1_pathAnew 75 = .ok (.iload_n 2, 1) := dk_28 (dk_at dksX1_pathAnew_3 6 rfl rfl)
theorem dX1_pathAnew_76 : decode cX1_pathAnew 76 = .ok (.iaload, 1) := dk_46 (dk_at dksX1_pathAnew_3 7 rfl rfl)
theorem dX1_pathAnew_77 : decode cX1_pathAnew 77 = .ok (.ireturn, 1) := dk_172 (dk_at dksX1_pathAnew_3 8 rfl rfl)
abbrev cX1_product : ByteArray := prog_1_method_20_code
def yX1_product : MethodName := ⟨RX1, "product", "(I)J"⟩
def dkwX1_product_2 : List UInt8 := [27, 163, 0, 7, 9, 167, 0, 16, 44, 27, 185, 0, 175, 2, 0, 192, 0, 198, 180, 0, 215, 173]
abbrev dktX1_product_2 : List UInt8 := dkwX1_product_2 ++ []
def dkwX1_product_1 : List UInt8 := [184, 0, 100, 187, 0, 189, 89, 42, 183, 0, 191, 27, 4, 96, 182, 0, 194, 77, 44, 185, 0, 115, 1, 0]
abbrev dktX1_product_1 : List UInt8 := dkwX1_product_1 ++ dktX1_product_2
def dkwX1_product_0 : List UInt8 := [27, 16, 10, 184, 0, 111, 42, 180, 0, 63, 185, 0, 165, 1, 0, 154, 0, 7, 4, 167, 0, 4, 3]
abbrev dktX1_product_0 : List UInt8 := dkwX1_product_0 ++ dktX1_product_1
theorem dksX1_product_0 : cX1_product.data.toList.drop 0 = dktX1_product_0 := by decide +kernel
theorem dksX1_product_1 : cX1_product.data.toList.drop 23 = dktX1_product_1 := dk_seg dksX1_product_0 23 rfl rfl
theorem dksX1_product_2 : cX1_product.data.toList.drop 47 = dktX1_product_2 := dk_seg dksX1_product_1 24 rfl rfl
theorem dX1_product_0 : decode cX1_product 0 = .ok (.iload_n 1, 1) := dk_27 (dk_at dksX1_product_0 0 rfl rfl)
theorem dX1_product_1 : decode cX1_product 1 = .ok (.bipush 10, 2) := dk_16 10 (dk_at dksX1_product_0 1 rfl rfl)
theorem dX1_product_3 : decode cX1_product 3 = .ok (.invokestatic 111, 3) := dk_184 0 111 (dk_at dksX1_product_0 3 rfl rfl)
theorem dX1_product_6 : decode cX1_product 6 = .ok (.aload_n 0, 1) := dk_42 (dk_at dksX1_product_0 6 rfl rfl)
theorem dX1_product_7 : decode cX1_product 7 = .ok (.getfield 63, 3) := dk_180 0 63 (dk_at dksX1_product_0 7 rfl rfl)
theorem dX1_product_10 : decode cX1_product 10 = .ok (.invokeinterface 165 1, 5) := by decide +kernel
theorem dX1_product_15 : decode cX1_product 15 = .ok (.ifCond .ne 7, 3) := dk_154 0 7 (dk_at dksX1_product_0 15 rfl rfl)
theorem dX1_product_18 : decode cX1_product 18 = .ok (.iconst 1, 1) := dk_4 (dk_at dksX1_product_0 18 rfl rfl)
theorem dX1_product_19 : decode cX1_product 19 = .ok (.goto 4, 3) := dk_167 0 4 (dk_at dksX1_product_0 19 rfl rfl)
theorem dX1_product_22 : decode cX1_product 22 = .ok (.iconst 0, 1) := dk_3 (dk_at dksX1_product_0 22 rfl rfl)
theorem dX1_product_23 : decode cX1_product 23 = .ok (.invokestatic 100, 3) := dk_184 0 100 (dk_at dksX1_product_1 0 rfl rfl)
theorem dX1_product_26 : decode cX1_product 26 = .ok (.new 189, 3) := dk_187 0 189 (dk_at dksX1_product_1 3 rfl rfl)
theorem dX1_product_29 : decode cX1_product 29 = .ok (.dup, 1) := dk_89 (dk_at dksX1_product_1 6 rfl rfl)
theorem dX1_product_30 : decode cX1_product 30 = .ok (.aload_n 0, 1) := dk_42 (dk_at dksX1_product_1 7 rfl rfl)
theorem dX1_product_31 : decode cX1_product 31 = .ok (.invokespecial 191, 3) := dk_183 0 191 (dk_at dksX1_product_1 8 rfl rfl)
theorem dX1_product_34 : decode cX1_product 34 = .ok (.iload_n 1, 1) := dk_27 (dk_at dksX1_product_1 11 rfl rfl)
theorem dX1_product_35 : decode cX1_product 35 = .ok (.iconst 1, 1) := dk_4 (dk_at dksX1_product_1 12 rfl rfl)
theorem dX1_product_36 : decode cX1_product 36 = .ok (.iadd, 1) := dk_96 (dk_at dksX1_product_1 13 rfl rfl)
theorem dX1_product_37 : decode cX1_product 37 = .ok (.invokevirtual 194, 3) := dk_182 0 194 (dk_at dksX1_product_1 14 rfl rfl)
theorem dX1_product_40 : decode cX1_product 40 = .ok (.astore_n 2, 1) := dk_77 (dk_at dksX1_product_1 17 rfl rfl)
theorem dX1_product_41 : decode cX1_product 41 = .ok (.aload_n 2, 1) := dk_44 (dk_at dksX1_product_1 18 rfl rfl)
theorem dX1_product_42 : decode cX1_product 42 = .ok (.invokeinterface 115 1, 5) := by decide +kernel
theorem dX1_product_47 : decode cX1_product 47 = .ok (.iload_n 1, 1) := dk_27 (dk_at dksX1_product_2 0 rfl rfl)
theorem dX1_product_48 : decode cX1_product 48 = .ok (.if_icmp .gt 7, 3) := dk_163 0 7 (dk_at dksX1_product_2 1 rfl rfl)
theorem dX1_product_51 : decode cX1_product 51 = .ok (.lconst 0, 1) := dk_9 (dk_at dksX1_product_2 4 rfl rfl)
theorem dX1_product_52 : decode cX1_product 52 = .ok (.goto 16, 3) := dk_167 0 16 (dk_at dksX1_product_2 5 rfl rfl)
theorem dX1_product_55 : decode cX1_product 55 = .ok (.aload_n 2, 1) := dk_44 (dk_at dksX1_product_2 8 rfl rfl)
theorem dX1_product_56 : decode cX1_product 56 = .ok (.iload_n 1, 1) := dk_27 (dk_at dksX1_product_2 9 rfl rfl)
theorem dX1_product_57 : decode cX1_product 57 = .ok (.invokeinterface 175 2, 5) := by decide +kernel
theorem dX1_product_62 : decode cX1_product 62 = .ok (.checkcast 198, 3) := dk_192 0 198 (dk_at dksX1_product_2 15 rfl rfl)
theorem dX1_product_65 : decode cX1_product 65 = .ok (.getfield 215, 3) := dk_180 0 215 (dk_at dksX1_product_2 18 rfl rfl)
theorem dX1_product_68 : decode cX1_product 68 = .ok (.lreturn, 1) := dk_173 (dk_at dksX1_product_2 21 rfl rfl)
abbrev cX1_cost : ByteArray := prog_1_method_21_code
def yX1_cost : MethodName := ⟨RX1, "cost", "()I"⟩
def dkwX1_cost_2 : List UInt8 := [20, 0, 218, 148, 157, 0, 15, 31, 20, 0, 220, 105, 64, 132, 3, 1, 167, 255, 239, 29, 172]
abbrev dktX1_cost_2 : List UInt8 := dkwX1_cost_2 ++ []
def dkwX1_cost_1 : List UInt8 := [42, 183, 0, 191, 4, 182, 0, 194, 3, 185, 0, 175, 2, 0, 192, 0, 198, 180, 0, 215, 64, 3, 62, 31]
abbrev dktX1_cost_1 : List UInt8 := dkwX1_cost_1 ++ dktX1_cost_2
def dkwX1_cost_0 : List UInt8 := [42, 180, 0, 63, 185, 0, 165, 1, 0, 154, 0, 7, 4, 167, 0, 4, 3, 184, 0, 100, 187, 0, 189, 89]
abbrev dktX1_cost_0 : List UInt8 := dkwX1_cost_0 ++ dktX1_cost_1
theorem dksX1_cost_0 : cX1_cost.data.toList.drop 0 = dktX1_cost_0 := by decide +kernel
theorem dksX1_cost_1 : cX1_cost.data.toList.drop 24 = dktX1_cost_1 := dk_seg dksX1_cost_0 24 rfl rfl
theorem dksX1_cost_2 : cX1_cost.data.toList.drop 48 = dktX1_cost_2 := dk_seg dksX1_cost_1 24 rfl rfl
theorem dX1_cost_0 : decode cX1_cost 0 = .ok (.aload_n 0, 1) := dk_42 (dk_at dksX1_cost_0 0 rfl rfl)
theorem dX1_cost_1 : decode cX1_cost 1 = .ok (.getfield 63, 3) := dk_180 0 63 (dk_at dksX1_cost_0 1 rfl rfl)
theorem dX1_cost_4 : decode cX1_cost 4 = .ok (.invokeinterface 165 1, 5) := by decide +kernel
theorem dX1_cost_9 : decode cX1_cost 9 = .ok (.ifCond .ne 7, 3) := dk_154 0 7 (dk_at dksX1_cost_0 9 rfl rfl)
theorem dX1_cost_12 : decode cX1_cost 12 = .ok (.iconst 1, 1) := dk_4 (dk_at dksX1_cost_0 12 rfl rfl)
theorem dX1_cost_13 : decode cX1_cost 13 = .ok (.goto 4, 3) := dk_167 0 4 (dk_at dksX1_cost_0 13 rfl rfl)
theorem dX1_cost_16 : decode cX1_cost 16 = .ok (.iconst 0, 1) := dk_3 (dk_at dksX1_cost_0 16 rfl rfl)
theorem dX1_cost_17 : decode cX1_cost 17 = .ok (.invokestatic 100, 3) := dk_184 0 100 (dk_at dksX1_cost_0 17 rfl rfl)
theorem dX1_cost_20 : decode cX1_cost 20 = .ok (.new 189, 3) := dk_187 0 189 (dk_at dksX1_cost_0 20 rfl rfl)
theorem dX1_cost_23 : decode cX1_cost 23 = .ok (.dup, 1) := dk_89 (dk_at dksX1_cost_0 23 rfl rfl)
theorem dX1_cost_24 : decode cX1_cost 24 = .ok (.aload_n 0, 1) := dk_42 (dk_at dksX1_cost_1 0 rfl rfl)
theorem dX1_cost_25 : decode cX1_cost 25 = .ok (.invokespecial 191, 3) := dk_183 0 191 (dk_at dksX1_cost_1 1 rfl rfl)
theorem dX1_cost_28 : decode cX1_cost 28 = .ok (.iconst 1, 1) := dk_4 (dk_at dksX1_cost_1 4 rfl rfl)
theorem dX1_cost_29 : decode cX1_cost 29 = .ok (.invokevirtual 194, 3) := dk_182 0 194 (dk_at dksX1_cost_1 5 rfl rfl)
theorem dX1_cost_32 : decode cX1_cost 32 = .ok (.iconst 0, 1) := dk_3 (dk_at dksX1_cost_1 8 rfl rfl)
theorem dX1_cost_33 : decode cX1_cost 33 = .ok (.invokeinterface 175 2, 5) := by decide +kernel
theorem dX1_cost_38 : decode cX1_cost 38 = .ok (.checkcast 198, 3) := dk_192 0 198 (dk_at dksX1_cost_1 14 rfl rfl)
theorem dX1_cost_41 : decode cX1_cost 41 = .ok (.getfield 215, 3) := dk_180 0 215 (dk_at dksX1_cost_1 17 rfl rfl)
theorem dX1_cost_44 : decode cX1_cost 44 = .ok (.lstore_n 1, 1) := dk_64 (dk_at dksX1_cost_1 20 rfl rfl)
theorem dX1_cost_45 : decode cX1_cost 45 = .ok (.iconst 0, 1) := dk_3 (dk_at dksX1_cost_1 21 rfl rfl)
theorem dX1_cost_46 : decode cX1_cost 46 = .ok (.istore_n 3, 1) := dk_62 (dk_at dksX1_cost_1 22 rfl rfl)
theorem dX1_cost_47 : decode cX1_cost 47 = .ok (.lload_n 1, 1) := dk_31 (dk_at dksX1_cost_1 23 rfl rfl)
theorem dX1_cost_48 : decode cX1_cost 48 = .ok (.ldc2_w 218, 3) := dk_20 0 218 (dk_at dksX1_cost_2 0 rfl rfl)
theorem dX1_cost_51 : decode cX1_cost 51 = .ok (.lcmp, 1) := dk_148 (dk_at dksX1_cost_2 3 rfl rfl)
theorem dX1_cost_52 : decode cX1_cost 52 = .ok (.ifCond .gt 15, 3) := dk_157 0 15 (dk_at dksX1_cost_2 4 rfl rfl)
theorem dX1_cost_55 : decode cX1_cost 55 = .ok (.lload_n 1, 1) := dk_31 (dk_at dksX1_cost_2 7 rfl rfl)
theorem dX1_cost_56 : decode cX1_cost 56 = .ok (.ldc2_w 220, 3) := dk_20 0 220 (dk_at dksX1_cost_2 8 rfl rfl)
theorem dX1_cost_59 : decode cX1_cost 59 = .ok (.lmul, 1) := dk_105 (dk_at dksX1_cost_2 11 rfl rfl)
theorem dX1_cost_60 : decode cX1_cost 60 = .ok (.lstore_n 1, 1) := dk_64 (dk_at dksX1_cost_2 12 rfl rfl)
theorem dX1_cost_61 : decode cX1_cost 61 = .ok (.iinc 3 1, 3) := dk_132 3 1 (dk_at dksX1_cost_2 13 rfl rfl)
theorem dX1_cost_64 : decode cX1_cost 64 = .ok (.goto (-17), 3) := dk_167 255 239 (dk_at dksX1_cost_2 16 rfl rfl)
theorem dX1_cost_67 : decode cX1_cost 67 = .ok (.iload_n 3, 1) := dk_29 (dk_at dksX1_cost_2 19 rfl rfl)
theorem dX1_cost_68 : decode cX1_cost 68 = .ok (.ireturn, 1) := dk_172 (dk_at dksX1_cost_2 20 rfl rfl)
abbrev cX1_share : ByteArray := prog_1_method_23_code
def yX1_share : MethodName := ⟨RX1, "share", "(II)I"⟩
def dkwX1_share_1 : List UInt8 := [183, 0, 191, 27, 182, 0, 224, 28, 184, 0, 228, 172]
abbrev dktX1_share_1 : List UInt8 := dkwX1_share_1 ++ []
def dkwX1_share_0 : List UInt8 := [27, 42, 180, 0, 63, 185, 0, 115, 1, 0, 184, 0, 111, 28, 8, 184, 0, 111, 187, 0, 189, 89, 42]
abbrev dktX1_share_0 : List UInt8 := dkwX1_share_0 ++ dktX1_share_1
theorem dksX1_share_0 : cX1_share.data.toList.drop 0 = dktX1_share_0 := by decide +kernel
theorem dksX1_share_1 : cX1_share.data.toList.drop 23 = dktX1_share_1 := dk_seg dksX1_share_0 23 rfl rfl
theorem dX1_share_0 : decode cX1_share 0 = .ok (.iload_n 1, 1) := dk_27 (dk_at dksX1_share_0 0 rfl rfl)
theorem dX1_share_1 : decode cX1_share 1 = .ok (.aload_n 0, 1) := dk_42 (dk_at dksX1_share_0 1 rfl rfl)
theorem dX1_share_2 : decode cX1_share 2 = .ok (.getfield 63, 3) := dk_180 0 63 (dk_at dksX1_share_0 2 rfl rfl)
theorem dX1_share_5 : decode cX1_share 5 = .ok (.invokeinterface 115 1, 5) := by decide +kernel
theorem dX1_share_10 : decode cX1_share 10 = .ok (.invokestatic 111, 3) := dk_184 0 111 (dk_at dksX1_share_0 10 rfl rfl)
theorem dX1_share_13 : decode cX1_share 13 = .ok (.iload_n 2, 1) := dk_28 (dk_at dksX1_share_0 13 rfl rfl)
theorem dX1_share_14 : decode cX1_share 14 = .ok (.iconst 5, 1) := dk_8 (dk_at dksX1_share_0 14 rfl rfl)
theorem dX1_share_15 : decode cX1_share 15 = .ok (.invokestatic 111, 3) := dk_184 0 111 (dk_at dksX1_share_0 15 rfl rfl)
theorem dX1_share_18 : decode cX1_share 18 = .ok (.new 189, 3) := dk_187 0 189 (dk_at dksX1_share_0 18 rfl rfl)
theorem dX1_share_21 : decode cX1_share 21 = .ok (.dup, 1) := dk_89 (dk_at dksX1_share_0 21 rfl rfl)
theorem dX1_share_22 : decode cX1_share 22 = .ok (.aload_n 0, 1) := dk_42 (dk_at dksX1_share_0 22 rfl rfl)
theorem dX1_share_23 : decode cX1_share 23 = .ok (.invokespecial 191, 3) := dk_183 0 191 (dk_at dksX1_share_1 0 rfl rfl)
theorem dX1_share_26 : decode cX1_share 26 = .ok (.iload_n 1, 1) := dk_27 (dk_at dksX1_share_1 3 rfl rfl)
theorem dX1_share_27 : decode cX1_share 27 = .ok (.invokevirtual 224, 3) := dk_182 0 224 (dk_at dksX1_share_1 4 rfl rfl)
theorem dX1_share_30 : decode cX1_share 30 = .ok (.iload_n 2, 1) := dk_28 (dk_at dksX1_share_1 7 rfl rfl)
theorem dX1_share_31 : decode cX1_share 31 = .ok (.invokestatic 228, 3) := dk_184 0 228 (dk_at dksX1_share_1 8 rfl rfl)
theorem dX1_share_34 : decode cX1_share 34 = .ok (.ireturn, 1) := dk_172 (dk_at dksX1_share_1 11 rfl rfl)
abbrev cX1_shareOf : ByteArray := prog_1_method_22_code
def yX1_shareOf : MethodName := ⟨RX1, "shareOf", "([JI)I"⟩
def dkwX1_shareOf_2 : List UInt8 := [172]
abbrev dktX1_shareOf_2 : List UInt8 := dkwX1_shareOf_2 ++ []
def dkwX1_shareOf_1 : List UInt8 := [47, 55, 7, 32, 22, 7, 97, 65, 132, 6, 1, 167, 255, 234, 20, 0, 222, 42, 27, 47, 105, 32, 109, 136]
abbrev dktX1_shareOf_1 : List UInt8 := dkwX1_shareOf_1 ++ dktX1_shareOf_2
def dkwX1_shareOf_0 : List UInt8 := [9, 65, 42, 58, 4, 25, 4, 190, 54, 5, 3, 54, 6, 21, 6, 21, 5, 162, 0, 21, 25, 4, 21, 6]
abbrev dktX1_shareOf_0 : List UInt8 := dkwX1_shareOf_0 ++ dktX1_shareOf_1
theorem dksX1_shareOf_0 : cX1_shareOf.data.toList.drop 0 = dktX1_shareOf_0 := by decide +kernel
theorem dksX1_shareOf_1 : cX1_shareOf.data.toList.drop 24 = dktX1_shareOf_1 := dk_seg dksX1_shareOf_0 24 rfl rfl
theorem dksX1_shareOf_2 : cX1_shareOf.data.toList.drop 48 = dktX1_shareOf_2 := dk_seg dksX1_shareOf_1 24 rfl rfl
theorem dX1_shareOf_0 : decode cX1_shareOf 0 = .ok (.lconst 0, 1) := dk_9 (dk_at dksX1_shareOf_0 0 rfl rfl)
theorem dX1_shareOf_1 : decode cX1_shareOf 1 = .ok (.lstore_n 2, 1) := dk_65 (dk_at dksX1_shareOf_0 1 rfl rfl)
theorem dX1_shareOf_2 : decode cX1_shareOf 2 = .ok (.aload_n 0, 1) := dk_42 (dk_at dksX1_shareOf_0 2 rfl rfl)
theorem dX1_shareOf_3 : decode cX1_shareOf 3 = .ok (.astore 4, 2) := dk_58 4 (dk_at dksX1_shareOf_0 3 rfl rfl)
theorem dX1_shareOf_5 : decode cX1_shareOf 5 = .ok (.aload 4, 2) := dk_25 4 (dk_at dksX1_shareOf_0 5 rfl rfl)
theorem dX1_shareOf_7 : decode cX1_shareOf 7 = .ok (.arraylength, 1) := dk_190 (dk_at dksX1_shareOf_0 7 rfl rfl)
theorem dX1_shareOf_8 : decode cX1_shareOf 8 = .ok (.istore 5, 2) := dk_54 5 (dk_at dksX1_shareOf_0 8 rfl rfl)
theorem dX1_shareOf_10 : decode cX1_shareOf 10 = .ok (.iconst 0, 1) := dk_3 (dk_at dksX1_shareOf_0 10 rfl rfl)
theorem dX1_shareOf_11 : decode cX1_shareOf 11 = .ok (.istore 6, 2) := dk_54 6 (dk_at dksX1_shareOf_0 11 rfl rfl)
theorem dX1_shareOf_13 : decode cX1_shareOf 13 = .ok (.iload 6, 2) := dk_21 6 (dk_at dksX1_shareOf_0 13 rfl rfl)
theorem dX1_shareOf_15 : decode cX1_shareOf 15 = .ok (.iload 5, 2) := dk_21 5 (dk_at dksX1_shareOf_0 15 rfl rfl)
theorem dX1_shareOf_17 : decode cX1_shareOf 17 = .ok (.if_icmp .ge 21, 3) := dk_162 0 21 (dk_at dksX1_shareOf_0 17 rfl rfl)
theorem dX1_shareOf_20 : decode cX1_shareOf 20 = .ok (.aload 4, 2) := dk_25 4 (dk_at dksX1_shareOf_0 20 rfl rfl)
theorem dX1_shareOf_22 : decode cX1_shareOf 22 = .ok (.iload 6, 2) := dk_21 6 (dk_at dksX1_shareOf_0 22 rfl rfl)
theorem dX1_shareOf_24 : decode cX1_shareOf 24 = .ok (.laload, 1) := dk_47 (dk_at dksX1_shareOf_1 0 rfl rfl)
theorem dX1_shareOf_25 : decode cX1_shareOf 25 = .ok (.lstore 7, 2) := dk_55 7 (dk_at dksX1_shareOf_1 1 rfl rfl)
theorem dX1_shareOf_27 : decode cX1_shareOf 27 = .ok (.lload_n 2, 1) := dk_32 (dk_at dksX1_shareOf_1 3 rfl rfl)
theorem dX1_shareOf_28 : decode cX1_shareOf 28 = .ok (.lload 7, 2) := dk_22 7 (dk_at dksX1_shareOf_1 4 rfl rfl)
theorem dX1_shareOf_30 : decode cX1_shareOf 30 = .ok (.ladd, 1) := dk_97 (dk_at dksX1_shareOf_1 6 rfl rfl)
theorem dX1_shareOf_31 : decode cX1_shareOf 31 = .ok (.lstore_n 2, 1) := dk_65 (dk_at dksX1_shareOf_1 7 rfl rfl)
theorem dX1_shareOf_32 : decode cX1_shareOf 32 = .ok (.iinc 6 1, 3) := dk_132 6 1 (dk_at dksX1_shareOf_1 8 rfl rfl)
theorem dX1_shareOf_35 : decode cX1_shareOf 35 = .ok (.goto (-22), 3) := dk_167 255 234 (dk_at dksX1_shareOf_1 11 rfl rfl)
theorem dX1_shareOf_38 : decode cX1_shareOf 38 = .ok (.ldc2_w 222, 3) := dk_20 0 222 (dk_at dksX1_shareOf_1 14 rfl rfl)
theorem dX1_shareOf_41 : decode cX1_shareOf 41 = .ok (.aload_n 0, 1) := dk_42 (dk_at dksX1_shareOf_1 17 rfl rfl)
theorem dX1_shareOf_42 : decode cX1_shareOf 42 = .ok (.iload_n 1, 1) := dk_27 (dk_at dksX1_shareOf_1 18 rfl rfl)
theorem dX1_shareOf_43 : decode cX1_shareOf 43 = .ok (.laload, 1) := dk_47 (dk_at dksX1_shareOf_1 19 rfl rfl)
theorem dX1_shareOf_44 : decode cX1_shareOf 44 = .ok (.lmul, 1) := dk_105 (dk_at dksX1_shareOf_1 20 rfl rfl)
theorem dX1_shareOf_45 : decode cX1_shareOf 45 = .ok (.lload_n 2, 1) := dk_32 (dk_at dksX1_shareOf_1 21 rfl rfl)
theorem dX1_shareOf_46 : decode cX1_shareOf 46 = .ok (.ldiv, 1) := dk_109 (dk_at dksX1_shareOf_1 22 rfl rfl)
theorem dX1_shareOf_47 : decode cX1_shareOf 47 = .ok (.l2i, 1) := dk_136 (dk_at dksX1_shareOf_1 23 rfl rfl)
theorem dX1_shareOf_48 : decode cX1_shareOf 48 = .ok (.ireturn, 1) := dk_172 (dk_at dksX1_shareOf_2 0 rfl rfl)
abbrev cX1_shareAnew : ByteArray := prog_1_method_24_code
def yX1_shareAnew : MethodName := ⟨RX1, "shareAnew", "(II)I"⟩
def dkwX1_shareAnew_2 : List UInt8 := [184, 0, 228, 172]
abbrev dktX1_shareAnew_2 : List UInt8 := dkwX1_shareAnew_2 ++ []
def dkwX1_shareAnew_1 : List UInt8 := [187, 0, 189, 89, 42, 183, 0, 191, 27, 183, 0, 205, 78, 45, 3, 10, 182, 0, 208, 45, 180, 0, 232, 28]
abbrev dktX1_shareAnew_1 : List UInt8 := dkwX1_shareAnew_1 ++ dktX1_shareAnew_2
def dkwX1_shareAnew_0 : List UInt8 := [27, 42, 180, 0, 63, 185, 0, 115, 1, 0, 184, 0, 111, 28, 8, 184, 0, 111, 187, 0, 203, 89]
abbrev dktX1_shareAnew_0 : List UInt8 := dkwX1_shareAnew_0 ++ dktX1_shareAnew_1
theorem dksX1_shareAnew_0 : cX1_shareAnew.data.toList.drop 0 = dktX1_shareAnew_0 := by decide +kernel
theorem dksX1_shareAnew_1 : cX1_shareAnew.data.toList.drop 22 = dktX1_shareAnew_1 := dk_seg dksX1_shareAnew_0 22 rfl rfl
theorem dksX1_shareAnew_2 : cX1_shareAnew.data.toList.drop 46 = dktX1_shareAnew_2 := dk_seg dksX1_shareAnew_1 24 rfl rfl
theorem dX1_shareAnew_0 : decode cX1_shareAnew 0 = .ok (.iload_n 1, 1) := dk_27 (dk_at dksX1_shareAnew_0 0 rfl rfl)
theorem dX1_shareAnew_1 : decode cX1_shareAnew 1 = .ok (.aload_n 0, 1) := dk_42 (dk_at dksX1_shareAnew_0 1 rfl rfl)
theorem dX1_shareAnew_2 : decode cX1_shareAnew 2 = .ok (.getfield 63, 3) := dk_180 0 63 (dk_at dksX1_shareAnew_0 2 rfl rfl)
theorem dX1_shareAnew_5 : decode cX1_shareAnew 5 = .ok (.invokeinterface 115 1, 5) := by decide +kernel
theorem dX1_shareAnew_10 : decode cX1_shareAnew 10 = .ok (.invokestatic 111, 3) := dk_184 0 111 (dk_at dksX1_shareAnew_0 10 rfl rfl)
theorem dX1_shareAnew_13 : decode cX1_shareAnew 13 = .ok (.iload_n 2, 1) := dk_28 (dk_at dksX1_shareAnew_0 13 rfl rfl)
theorem dX1_shareAnew_14 : decode cX1_shareAnew 14 = .ok (.iconst 5, 1) := dk_8 (dk_at dksX1_shareAnew_0 14 rfl rfl)
theorem dX1_shareAnew_15 : decode cX1_shareAnew 15 = .ok (.invokestatic 111, 3) := dk_184 0 111 (dk_at dksX1_shareAnew_0 15 rfl rfl)
theorem dX1_shareAnew_18 : decode cX1_shareAnew 18 = .ok (.new 203, 3) := dk_187 0 203 (dk_at dksX1_shareAnew_0 18 rfl rfl)
theorem dX1_shareAnew_21 : decode cX1_shareAnew 21 = .ok (.dup, 1) := dk_89 (dk_at dksX1_shareAnew_0 21 rfl rfl)
theorem dX1_shareAnew_22 : decode cX1_shareAnew 22 = .ok (.new 189, 3) := dk_187 0 189 (dk_at dksX1_shareAnew_1 0 rfl rfl)
theorem dX1_shareAnew_25 : decode cX1_shareAnew 25 = .ok (.dup, 1) := dk_89 (dk_at dksX1_shareAnew_1 3 rfl rfl)
theorem dX1_shareAnew_26 : decode cX1_shareAnew 26 = .ok (.aload_n 0, 1) := dk_42 (dk_at dksX1_shareAnew_1 4 rfl rfl)
theorem dX1_shareAnew_27 : decode cX1_shareAnew 27 = .ok (.invokespecial 191, 3) := dk_183 0 191 (dk_at dksX1_shareAnew_1 5 rfl rfl)
theorem dX1_shareAnew_30 : decode cX1_shareAnew 30 = .ok (.iload_n 1, 1) := dk_27 (dk_at dksX1_shareAnew_1 8 rfl rfl)
theorem dX1_shareAnew_31 : decode cX1_shareAnew 31 = .ok (.invokespecial 205, 3) := dk_183 0 205 (dk_at dksX1_shareAnew_1 9 rfl rfl)
theorem dX1_shareAnew_34 : decode cX1_shareAnew 34 = .ok (.astore_n 3, 1) := dk_78 (dk_at dksX1_shareAnew_1 12 rfl rfl)
theorem dX1_shareAnew_35 : decode cX1_shareAnew 35 = .ok (.aload_n 3, 1) := dk_45 (dk_at dksX1_shareAnew_1 13 rfl rfl)
theorem dX1_shareAnew_36 : decode cX1_shareAnew 36 = .ok (.iconst 0, 1) := dk_3 (dk_at dksX1_shareAnew_1 14 rfl rfl)
theorem dX1_shareAnew_37 : decode cX1_shareAnew 37 = .ok (.lconst 1, 1) := dk_10 (dk_at dksX1_shareAnew_1 15 rfl rfl)
theorem dX1_shareAnew_38 : decode cX1_shareAnew 38 = .ok (.invokevirtual 208, 3) := dk_182 0 208 (dk_at dksX1_shareAnew_1 16 rfl rfl)
theorem dX1_shareAnew_41 : decode cX1_shareAnew 41 = .ok (.aload_n 3, 1) := dk_45 (dk_at dksX1_shareAnew_1 19 rfl rfl)
theorem dX1_shareAnew_42 : decode cX1_shareAnew 42 = .ok (.getfield 232, 3) := dk_180 0 232 (dk_at dksX1_shareAnew_1 20 rfl rfl)
theorem dX1_shareAnew_45 : decode cX1_shareAnew 45 = .ok (.iload_n 2, 1) := dk_28 (dk_at dksX1_shareAnew_1 23 rfl rfl)
theorem dX1_shareAnew_46 : decode cX1_shareAnew 46 = .ok (.invokestatic 228, 3) := dk_184 0 228 (dk_at dksX1_shareAnew_2 0 rfl rfl)
theorem dX1_shareAnew_49 : decode cX1_shareAnew 49 = .ok (.ireturn, 1) := dk_172 (dk_at dksX1_shareAnew_2 3 rfl rfl)
theorem q36 : (Jvm.Cond.initialized "Trellistag") ∈ lw_all := lw_g (lw_at lw_m1 1 rfl) rfl
theorem q82 : (Jvm.Cond.instantiable "Trellistag" (9 : Nat)) ∈ lw_all := lw_g (lw_at lw_m1 47 rfl) rfl
theorem q84 : (Jvm.Cond.instanceMethod ({ cls := "Trellistag", name := "<init>", desc := "()V" } : Jvm.MethodName)) ∈ lw_all := lw_g (lw_at lw_m1 49 rfl) rfl
theorem q85 : (Jvm.Cond.code ({ cls := "Trellistag", name := "<init>", desc := "()V" } : Jvm.MethodName) prog_1_method_2_code (1 : Nat) (Option.none : Option Jvm.ClassFile.FieldType)) ∈ lw_all := lw_g (lw_at lw_m1 50 rfl) rfl
theorem q86 : (Jvm.Cond.methodLink "Trellistag" (25 : Nat) ({ cls := "java/lang/Object", name := "<init>", desc := "()V" } : Jvm.MethodName)) ∈ lw_all := lw_g (lw_at lw_m1 51 rfl) rfl
theorem q89 : (Jvm.Cond.classLink "Trellistag" (28 : Nat) "Trellistag$Words") ∈ lw_all := lw_g (lw_at lw_m1 54 rfl) rfl
theorem q91 : (Jvm.Cond.methodLinkNest "Trellistag" (30 : Nat) ({ cls := "Trellistag$Words", name := "<init>", desc := "()V" } : Jvm.MethodName) "Trellistag") ∈ lw_tbl := lw_at lw_m1 56 rfl
theorem q137 : (Jvm.Cond.classLink "Trellistag" (37 : Nat) "Trellistag$Endings") ∈ lw_all := lw_g (lw_at lw_m1 102 rfl) rfl
theorem q139 : (Jvm.Cond.methodLinkNest "Trellistag" (39 : Nat) ({ cls := "Trellistag$Endings", name := "<init>", desc := "()V" } : Jvm.MethodName) "Trellistag") ∈ lw_tbl := lw_at lw_m1 104 rfl
theorem q145 : (Jvm.Cond.classLink "Trellistag" (44 : Nat) "[[I") ∈ lw_all := lw_g (lw_at lw_m1 110 rfl) rfl
theorem q147 : (Jvm.Cond.classLink "Trellistag" (53 : Nat) "java/util/ArrayList") ∈ lw_all := lw_g (lw_at lw_m1 112 rfl) rfl
theorem q149 : (Jvm.Cond.methodLink "Trellistag" (55 : Nat) ({ cls := "java/util/ArrayList", name := "<init>", desc := "()V" } : Jvm.MethodName)) ∈ lw_all := lw_g (lw_at lw_m1 114 rfl) rfl
theorem q177 : (Jvm.Cond.stringRef "Trellistag" (69 : Nat) "") ∈ lw_tbl := lw_at lw_m1 142 rfl
theorem q178 : (Jvm.Cond.fieldLink "Trellistag" (31 : Nat) "Trellistag" "words" "LTrellistag$Words;") ∈ lw_all := lw_g (lw_at lw_m1 143 rfl) rfl
theorem q179 : (Jvm.Cond.fieldLink "Trellistag" (40 : Nat) "Trellistag" "endings" "LTrellistag$Endings;") ∈ lw_all := lw_g (lw_at lw_m1 144 rfl) rfl
theorem q180 : (Jvm.Cond.fieldLink "Trellistag" (46 : Nat) "Trellistag" "steps" "[[I") ∈ lw_all := lw_g (lw_at lw_m1 145 rfl) rfl
theorem q181 : (Jvm.Cond.fieldLink "Trellistag" (49 : Nat) "Trellistag" "firsts" "[I") ∈ lw_all := lw_g (lw_at lw_m1 146 rfl) rfl
theorem q182 : (Jvm.Cond.fieldLink "Trellistag" (56 : Nat) "Trellistag" "texts" "Ljava/util/List;") ∈ lw_all := lw_g (lw_at lw_m1 147 rfl) rfl
theorem q183 : (Jvm.Cond.fieldLink "Trellistag" (60 : Nat) "Trellistag" "draft" "Ljava/util/List;") ∈ lw_all := lw_g (lw_at lw_m1 148 rfl) rfl
theorem q185 : (Jvm.Cond.fieldLink "Trellistag" (63 : Nat) "Trellistag" "sentence" "Ljava/util/List;") ∈ lw_all := lw_g (lw_at lw_m1 150 rfl) rfl
theorem q187 : (Jvm.Cond.fieldLink "Trellistag" (66 : Nat) "Trellistag" "locks" "[I") ∈ lw_all := lw_g (lw_at lw_m1 152 rfl) rfl
theorem q188 : (Jvm.Cond.fieldLink "Trellistag" (71 : Nat) "Trellistag" "typed" "Ljava/lang/String;") ∈ lw_all := lw_g (lw_at lw_m1 153 rfl) rfl
theorem q189 : (Jvm.Cond.laysFinal "Trellistag" "Trellistag" "words" "LTrellistag$Words;") ∈ lw_all := lw_g (lw_at lw_m1 154 rfl) rfl
theorem q190 : (Jvm.Cond.soleField "Trellistag" "words") ∈ lw_all := lw_g (lw_at lw_m1 155 rfl) rfl
theorem q191 : (Jvm.Cond.laysFinal "Trellistag" "Trellistag" "endings" "LTrellistag$Endings;") ∈ lw_all := lw_g (lw_at lw_m1 156 rfl) rfl
theorem q192 : (Jvm.Cond.soleField "Trellistag" "endings") ∈ lw_all := lw_g (lw_at lw_m1 157 rfl) rfl
theorem q193 : (Jvm.Cond.laysFinal "Trellistag" "Trellistag" "steps" "[[I") ∈ lw_all := lw_g (lw_at lw_m1 158 rfl) rfl
theorem q194 : (Jvm.Cond.soleField "Trellistag" "steps") ∈ lw_all := lw_g (lw_at lw_m1 159 rfl) rfl
theorem q195 : (Jvm.Cond.laysFinal "Trellistag" "Trellistag" "firsts" "[I") ∈ lw_all := lw_g (lw_at lw_m1 160 rfl) rfl
theorem q196 : (Jvm.Cond.soleField "Trellistag" "firsts") ∈ lw_all := lw_g (lw_at lw_m1 161 rfl) rfl
theorem q197 : (Jvm.Cond.laysFinal "Trellistag" "Trellistag" "texts" "Ljava/util/List;") ∈ lw_all := lw_g (lw_at lw_m1 162 rfl) rfl
theorem q198 : (Jvm.Cond.soleField "Trellistag" "texts") ∈ lw_all := lw_g (lw_at lw_m1 163 rfl) rfl
theorem q199 : (Jvm.Cond.lays "Trellistag" "Trellistag" "draft" "Ljava/util/List;") ∈ lw_all := lw_g (lw_at lw_m1 164 rfl) rfl
theorem q200 : (Jvm.Cond.soleField "Trellistag" "draft") ∈ lw_all := lw_g (lw_at lw_m1 165 rfl) rfl
theorem q201 : (Jvm.Cond.laysFinal "Trellistag" "Trellistag" "sentence" "Ljava/util/List;") ∈ lw_all := lw_g (lw_at lw_m1 166 rfl) rfl
theorem q202 : (Jvm.Cond.soleField "Trellistag" "sentence") ∈ lw_all := lw_g (lw_at lw_m1 167 rfl) rfl
theorem q203 : (Jvm.Cond.laysFinal "Trellistag" "Trellistag" "locks" "[I") ∈ lw_all := lw_g (lw_at lw_m1 168 rfl) rfl
theorem q204 : (Jvm.Cond.soleField "Trellistag" "locks") ∈ lw_all := lw_g (lw_at lw_m1 169 rfl) rfl
theorem q205 : (Jvm.Cond.lays "Trellistag" "Trellistag" "typed" "Ljava/lang/String;") ∈ lw_all := lw_g (lw_at lw_m1 170 rfl) rfl
theorem q206 : (Jvm.Cond.soleField "Trellistag" "typed") ∈ lw_all := lw_g (lw_at lw_m1 171 rfl) rfl
theorem q207 : (Jvm.Cond.superclass "Trellistag" "java/lang/Object") ∈ lw_all := lw_g (lw_at lw_m1 172 rfl) rfl
theorem q210 : (Jvm.Cond.instanceMethod ({ cls := "Trellistag", name := "clear", desc := "()I" } : Jvm.MethodName)) ∈ lw_all := lw_g (lw_at lw_m1 175 rfl) rfl
theorem q211 : (Jvm.Cond.selects "Trellistag" ({ cls := "Trellistag", name := "clear", desc := "()I" } : Jvm.MethodName) ({ cls := "Trellistag", name := "clear", desc := "()I" } : Jvm.MethodName)) ∈ lw_all := lw_g (lw_at lw_m1 176 rfl) rfl
theorem q212 : (Jvm.Cond.code ({ cls := "Trellistag", name := "clear", desc := "()I" } : Jvm.MethodName) prog_1_method_14_code (2 : Nat) (Option.some Jvm.ClassFile.FieldType.int)) ∈ lw_all := lw_g (lw_at lw_m1 177 rfl) rfl
theorem q213 : (Jvm.Cond.interfaceEntry "Trellistag" (115 : Nat)) ∈ lw_tbl := lw_at lw_m1 178 rfl
theorem q214 : (Jvm.Cond.methodLink "Trellistag" (115 : Nat) ({ cls := "java/util/List", name := "size", desc := "()I" } : Jvm.MethodName)) ∈ lw_all := lw_g (lw_at lw_m1 179 rfl) rfl
theorem q223 : (Jvm.Cond.interfaceEntry "Trellistag" (165 : Nat)) ∈ lw_tbl := lw_at lw_m1 188 rfl
theorem q224 : (Jvm.Cond.methodLink "Trellistag" (165 : Nat) ({ cls := "java/util/List", name := "isEmpty", desc := "()Z" } : Jvm.MethodName)) ∈ lw_all := lw_g (lw_at lw_m1 189 rfl) rfl
theorem q232 : (Jvm.Cond.interfaceEntry "Trellistag" (179 : Nat)) ∈ lw_tbl := lw_at lw_m1 197 rfl
theorem q233 : (Jvm.Cond.methodLink "Trellistag" (179 : Nat) ({ cls := "java/util/List", name := "remove", desc := "(I)Ljava/lang/Object;" } : Jvm.MethodName)) ∈ lw_all := lw_g (lw_at lw_m1 198 rfl) rfl
theorem q255 : (Jvm.Cond.instanceMethod ({ cls := "Trellistag", name := "texts", desc := "()I" } : Jvm.MethodName)) ∈ lw_all := lw_g (lw_at lw_m1 220 rfl) rfl
theorem q256 : (Jvm.Cond.selects "Trellistag" ({ cls := "Trellistag", name := "texts", desc := "()I" } : Jvm.MethodName) ({ cls := "Trellistag", name := "texts", desc := "()I" } : Jvm.MethodName)) ∈ lw_all := lw_g (lw_at lw_m1 221 rfl) rfl
theorem q257 : (Jvm.Cond.code ({ cls := "Trellistag", name := "texts", desc := "()I" } : Jvm.MethodName) prog_1_method_25_code (4 : Nat) (Option.some Jvm.ClassFile.FieldType.int)) ∈ lw_all := lw_g (lw_at lw_m1 222 rfl) rfl
theorem q258 : (Jvm.Cond.interfaceEntry "Trellistag" (136 : Nat)) ∈ lw_tbl := lw_at lw_m1 223 rfl
theorem q259 : (Jvm.Cond.methodLink "Trellistag" (136 : Nat) ({ cls := "java/util/List", name := "iterator", desc := "()Ljava/util/Iterator;" } : Jvm.MethodName)) ∈ lw_all := lw_g (lw_at lw_m1 224 rfl) rfl
theorem q286 : (Jvm.Cond.interfaceEntry "Trellistag" (140 : Nat)) ∈ lw_tbl := lw_at lw_m2 11 rfl
theorem q287 : (Jvm.Cond.methodLink "Trellistag" (140 : Nat) ({ cls := "java/util/Iterator", name := "hasNext", desc := "()Z" } : Jvm.MethodName)) ∈ lw_all := lw_g (lw_at lw_m2 12 rfl) rfl
theorem q296 : (Jvm.Cond.interfaceEntry "Trellistag" (146 : Nat)) ∈ lw_tbl := lw_at lw_m2 21 rfl
theorem q297 : (Jvm.Cond.methodLink "Trellistag" (146 : Nat) ({ cls := "java/util/Iterator", name := "next", desc := "()Ljava/lang/Object;" } : Jvm.MethodName)) ∈ lw_all := lw_g (lw_at lw_m2 22 rfl) rfl
theorem q309 : (Jvm.Cond.classLink "Trellistag" (133 : Nat) "Trellistag$Text") ∈ lw_all := lw_g (lw_at lw_m2 34 rfl) rfl
theorem q316 : (Jvm.Cond.instanceMethod ({ cls := "Trellistag", name := "letter", desc := "(C)I" } : Jvm.MethodName)) ∈ lw_all := lw_g (lw_at lw_m2 41 rfl) rfl
theorem q317 : (Jvm.Cond.selects "Trellistag" ({ cls := "Trellistag", name := "letter", desc := "(C)I" } : Jvm.MethodName) ({ cls := "Trellistag", name := "letter", desc := "(C)I" } : Jvm.MethodName)) ∈ lw_all := lw_g (lw_at lw_m2 42 rfl) rfl
theorem q318 : (Jvm.Cond.code ({ cls := "Trellistag", name := "letter", desc := "(C)I" } : Jvm.MethodName) prog_1_method_8_code (2 : Nat) (Option.some Jvm.ClassFile.FieldType.int)) ∈ lw_all := lw_g (lw_at lw_m2 43 rfl) rfl
theorem q319 : (Jvm.Cond.classLink "Trellistag" (97 : Nat) "java/lang/IllegalArgumentException") ∈ lw_all := lw_g (lw_at lw_m2 44 rfl) rfl
theorem q361 : (Jvm.Cond.methodLink "Trellistag" (99 : Nat) ({ cls := "java/lang/IllegalArgumentException", name := "<init>", desc := "()V" } : Jvm.MethodName)) ∈ lw_all := lw_g (lw_at lw_m2 86 rfl) rfl
theorem q384 : (Jvm.Cond.methodLink "Trellistag" (7 : Nat) ({ cls := "java/lang/String", name := "length", desc := "()I" } : Jvm.MethodName)) ∈ lw_all := lw_g (lw_at lw_m2 109 rfl) rfl
theorem q394 : (Jvm.Cond.methodLink "Trellistag" (100 : Nat) ({ cls := "Trellistag", name := "needState", desc := "(Z)V" } : Jvm.MethodName)) ∈ lw_all := lw_g (lw_at lw_m2 119 rfl) rfl
theorem q395 : (Jvm.Cond.static ({ cls := "Trellistag", name := "needState", desc := "(Z)V" } : Jvm.MethodName)) ∈ lw_all := lw_g (lw_at lw_m2 120 rfl) rfl
theorem q396 : (Jvm.Cond.code ({ cls := "Trellistag", name := "needState", desc := "(Z)V" } : Jvm.MethodName) prog_1_method_4_code (1 : Nat) (Option.none : Option Jvm.ClassFile.FieldType)) ∈ lw_all := lw_g (lw_at lw_m2 121 rfl) rfl
theorem q397 : (Jvm.Cond.classLink "Trellistag" (78 : Nat) "java/lang/IllegalStateException") ∈ lw_all := lw_g (lw_at lw_m2 122 rfl) rfl
theorem q406 : (Jvm.Cond.methodLink "Trellistag" (80 : Nat) ({ cls := "java/lang/IllegalStateException", name := "<init>", desc := "()V" } : Jvm.MethodName)) ∈ lw_all := lw_g (lw_at lw_m2 131 rfl) rfl
theorem q412 : (Jvm.Cond.classLink "Trellistag" (1 : Nat) "java/lang/StringBuilder") ∈ lw_all := lw_g (lw_at lw_m2 137 rfl) rfl
theorem q414 : (Jvm.Cond.methodLink "Trellistag" (3 : Nat) ({ cls := "java/lang/StringBuilder", name := "<init>", desc := "()V" } : Jvm.MethodName)) ∈ lw_all := lw_g (lw_at lw_m2 139 rfl) rfl
theorem q442 : (Jvm.Cond.methodLink "Trellistag" (104 : Nat) ({ cls := "java/lang/StringBuilder", name := "append", desc := "(Ljava/lang/String;)Ljava/lang/StringBuilder;" } : Jvm.MethodName)) ∈ lw_all := lw_g (lw_at lw_m2 167 rfl) rfl
theorem q552 : (Jvm.Cond.methodLink "Trellistag" (108 : Nat) ({ cls := "java/lang/StringBuilder", name := "append", desc := "(C)Ljava/lang/StringBuilder;" } : Jvm.MethodName)) ∈ lw_all := lw_g (lw_at lw_m3 37 rfl) rfl
theorem q572 : (Jvm.Cond.methodLink "Trellistag" (21 : Nat) ({ cls := "java/lang/StringBuilder", name := "toString", desc := "()Ljava/lang/String;" } : Jvm.MethodName)) ∈ lw_all := lw_g (lw_at lw_m3 57 rfl) rfl
theorem q698 : (Jvm.Cond.instanceMethod ({ cls := "Trellistag", name := "tag", desc := "(I)I" } : Jvm.MethodName)) ∈ lw_all := lw_g (lw_at lw_m3 183 rfl) rfl
theorem q699 : (Jvm.Cond.selects "Trellistag" ({ cls := "Trellistag", name := "tag", desc := "(I)I" } : Jvm.MethodName) ({ cls := "Trellistag", name := "tag", desc := "(I)I" } : Jvm.MethodName)) ∈ lw_all := lw_g (lw_at lw_m3 184 rfl) rfl
theorem q700 : (Jvm.Cond.code ({ cls := "Trellistag", name := "tag", desc := "(I)I" } : Jvm.MethodName) prog_1_method_9_code (2 : Nat) (Option.some Jvm.ClassFile.FieldType.int)) ∈ lw_all := lw_g (lw_at lw_m3 185 rfl) rfl
theorem q701 : (Jvm.Cond.methodLink "Trellistag" (111 : Nat) ({ cls := "Trellistag", name := "needPlace", desc := "(II)V" } : Jvm.MethodName)) ∈ lw_all := lw_g (lw_at lw_m3 186 rfl) rfl
theorem q702 : (Jvm.Cond.static ({ cls := "Trellistag", name := "needPlace", desc := "(II)V" } : Jvm.MethodName)) ∈ lw_all := lw_g (lw_at lw_m3 187 rfl) rfl
theorem q703 : (Jvm.Cond.code ({ cls := "Trellistag", name := "needPlace", desc := "(II)V" } : Jvm.MethodName) prog_1_method_3_code (2 : Nat) (Option.none : Option Jvm.ClassFile.FieldType)) ∈ lw_all := lw_g (lw_at lw_m3 188 rfl) rfl
theorem q704 : (Jvm.Cond.classLink "Trellistag" (75 : Nat) "java/lang/IndexOutOfBoundsException") ∈ lw_all := lw_g (lw_at lw_m3 189 rfl) rfl
theorem q713 : (Jvm.Cond.methodLink "Trellistag" (77 : Nat) ({ cls := "java/lang/IndexOutOfBoundsException", name := "<init>", desc := "()V" } : Jvm.MethodName)) ∈ lw_all := lw_g (lw_at lw_m3 198 rfl) rfl
theorem q719 : (Jvm.Cond.classLink "Trellistag" (120 : Nat) "Trellistag$Tagged") ∈ lw_all := lw_g (lw_at lw_m3 204 rfl) rfl
theorem q721 : (Jvm.Cond.methodLink "Trellistag" (122 : Nat) ({ cls := "Trellistag", name := "takeTyped", desc := "()Ljava/lang/String;" } : Jvm.MethodName)) ∈ lw_all := lw_g (lw_at lw_m3 206 rfl) rfl
theorem q722 : (Jvm.Cond.privateMethod ({ cls := "Trellistag", name := "takeTyped", desc := "()Ljava/lang/String;" } : Jvm.MethodName)) ∈ lw_tbl := lw_at lw_m3 207 rfl
theorem q723 : (Jvm.Cond.instanceMethod ({ cls := "Trellistag", name := "takeTyped", desc := "()Ljava/lang/String;" } : Jvm.MethodName)) ∈ lw_all := lw_g (lw_at lw_m3 208 rfl) rfl
theorem q724 : (Jvm.Cond.code ({ cls := "Trellistag", name := "takeTyped", desc := "()Ljava/lang/String;" } : Jvm.MethodName) prog_1_method_5_code (2 : Nat) (Option.some (Jvm.ClassFile.FieldType.object "java/lang/String"))) ∈ lw_all := lw_g (lw_at lw_m3 209 rfl) rfl
theorem q725 : (Jvm.Cond.methodLinkNest "Trellistag" (125 : Nat) ({ cls := "Trellistag$Tagged", name := "<init>", desc := "(Ljava/lang/String;I)V" } : Jvm.MethodName) "Trellistag") ∈ lw_tbl := lw_at lw_m3 210 rfl
theorem q739 : (Jvm.Cond.interfaceEntry "Trellistag" (128 : Nat)) ∈ lw_tbl := lw_at lw_m3 224 rfl
theorem q740 : (Jvm.Cond.methodLink "Trellistag" (128 : Nat) ({ cls := "java/util/List", name := "add", desc := "(Ljava/lang/Object;)Z" } : Jvm.MethodName)) ∈ lw_all := lw_g (lw_at lw_m3 225 rfl) rfl
theorem q767 : (Jvm.Cond.selects "Trellistag" ({ cls := "java/lang/Object", name := "getClass", desc := "()Ljava/lang/Class;" } : Jvm.MethodName) ({ cls := "java/lang/Object", name := "getClass", desc := "()Ljava/lang/Class;" } : Jvm.MethodName)) ∈ lw_all := lw_g (lw_at lw_m4 12 rfl) rfl
theorem q802 : (Jvm.Cond.instanceMethod ({ cls := "Trellistag", name := "add", desc := "()I" } : Jvm.MethodName)) ∈ lw_all := lw_g (lw_at lw_m4 47 rfl) rfl
theorem q803 : (Jvm.Cond.selects "Trellistag" ({ cls := "Trellistag", name := "add", desc := "()I" } : Jvm.MethodName) ({ cls := "Trellistag", name := "add", desc := "()I" } : Jvm.MethodName)) ∈ lw_all := lw_g (lw_at lw_m4 48 rfl) rfl
theorem q804 : (Jvm.Cond.code ({ cls := "Trellistag", name := "add", desc := "()I" } : Jvm.MethodName) prog_1_method_11_code (2 : Nat) (Option.some Jvm.ClassFile.FieldType.int)) ∈ lw_all := lw_g (lw_at lw_m4 49 rfl) rfl
theorem q806 : (Jvm.Cond.methodLink "Trellistag" (168 : Nat) ({ cls := "Trellistag$Text", name := "<init>", desc := "(Ljava/util/List;)V" } : Jvm.MethodName)) ∈ lw_all := lw_g (lw_at lw_m4 51 rfl) rfl
theorem q811 : (Jvm.Cond.fieldLink "Trellistag" (132 : Nat) "Trellistag$Text" "words" "Ljava/util/List;") ∈ lw_all := lw_g (lw_at lw_m4 56 rfl) rfl
theorem q812 : (Jvm.Cond.fieldLink "Trellistag" (161 : Nat) "Trellistag$Text" "counts" "Z") ∈ lw_all := lw_g (lw_at lw_m4 57 rfl) rfl
theorem q818 : (Jvm.Cond.methodLink "Trellistag" (171 : Nat) ({ cls := "Trellistag", name := "count", desc := "(LTrellistag$Text;I)V" } : Jvm.MethodName)) ∈ lw_all := lw_g (lw_at lw_m4 63 rfl) rfl
theorem q819 : (Jvm.Cond.privateMethod ({ cls := "Trellistag", name := "count", desc := "(LTrellistag$Text;I)V" } : Jvm.MethodName)) ∈ lw_tbl := lw_at lw_m4 64 rfl
theorem q820 : (Jvm.Cond.instanceMethod ({ cls := "Trellistag", name := "count", desc := "(LTrellistag$Text;I)V" } : Jvm.MethodName)) ∈ lw_all := lw_g (lw_at lw_m4 65 rfl) rfl
theorem q821 : (Jvm.Cond.code ({ cls := "Trellistag", name := "count", desc := "(LTrellistag$Text;I)V" } : Jvm.MethodName) prog_1_method_10_code (6 : Nat) (Option.none : Option Jvm.ClassFile.FieldType)) ∈ lw_all := lw_g (lw_at lw_m4 66 rfl) rfl
theorem q822 : (Jvm.Cond.methodLink "Trellistag" (150 : Nat) ({ cls := "Trellistag$Tagged", name := "word", desc := "()Ljava/lang/String;" } : Jvm.MethodName)) ∈ lw_all := lw_g (lw_at lw_m4 67 rfl) rfl
theorem q826 : (Jvm.Cond.methodLink "Trellistag" (153 : Nat) ({ cls := "Trellistag$Tagged", name := "tag", desc := "()I" } : Jvm.MethodName)) ∈ lw_all := lw_g (lw_at lw_m4 71 rfl) rfl
theorem q830 : (Jvm.Cond.methodLink "Trellistag" (156 : Nat) ({ cls := "Trellistag$Words", name := "note", desc := "(Ljava/lang/String;II)V" } : Jvm.MethodName)) ∈ lw_all := lw_g (lw_at lw_m4 75 rfl) rfl
theorem q1139 : (Jvm.Cond.methodLink "Trellistag" (160 : Nat) ({ cls := "Trellistag$Endings", name := "note", desc := "(Ljava/lang/String;II)V" } : Jvm.MethodName)) ∈ lw_all := lw_g (lw_at lw_m5 144 rfl) rfl
theorem q1145 : (Jvm.Cond.static ({ cls := "Trellistag", name := "endingOf", desc := "(Ljava/lang/String;I)Ljava/lang/String;" } : Jvm.MethodName)) ∈ lw_all := lw_g (lw_at lw_m5 150 rfl) rfl
theorem q1146 : (Jvm.Cond.code ({ cls := "Trellistag", name := "endingOf", desc := "(Ljava/lang/String;I)Ljava/lang/String;" } : Jvm.MethodName) prog_1_method_1_code (4 : Nat) (Option.some (Jvm.ClassFile.FieldType.object "java/lang/String"))) ∈ lw_all := lw_g (lw_at lw_m5 151 rfl) rfl
theorem q1147 : (Jvm.Cond.methodLink "Trellistag" (13 : Nat) ({ cls := "java/lang/String", name := "charAt", desc := "(I)C" } : Jvm.MethodName)) ∈ lw_all := lw_g (lw_at lw_m5 152 rfl) rfl
theorem q1162 : (Jvm.Cond.methodLink "Trellistag" (17 : Nat) ({ cls := "java/lang/StringBuilder", name := "insert", desc := "(IC)Ljava/lang/StringBuilder;" } : Jvm.MethodName)) ∈ lw_all := lw_g (lw_at lw_m5 167 rfl) rfl
theorem q1182 : (Jvm.Cond.instanceMethod ({ cls := "Trellistag", name := "text", desc := "(IZ)Z" } : Jvm.MethodName)) ∈ lw_all := lw_g (lw_at lw_m5 187 rfl) rfl
theorem q1183 : (Jvm.Cond.selects "Trellistag" ({ cls := "Trellistag", name := "text", desc := "(IZ)Z" } : Jvm.MethodName) ({ cls := "Trellistag", name := "text", desc := "(IZ)Z" } : Jvm.MethodName)) ∈ lw_all := lw_g (lw_at lw_m5 188 rfl) rfl
theorem q1184 : (Jvm.Cond.code ({ cls := "Trellistag", name := "text", desc := "(IZ)Z" } : Jvm.MethodName) prog_1_method_12_code (5 : Nat) (Option.some Jvm.ClassFile.FieldType.boolean)) ∈ lw_all := lw_g (lw_at lw_m5 189 rfl) rfl
theorem q1185 : (Jvm.Cond.interfaceEntry "Trellistag" (175 : Nat)) ∈ lw_tbl := lw_at lw_m5 190 rfl
theorem q1186 : (Jvm.Cond.methodLink "Trellistag" (175 : Nat) ({ cls := "java/util/List", name := "get", desc := "(I)Ljava/lang/Object;" } : Jvm.MethodName)) ∈ lw_all := lw_g (lw_at lw_m5 191 rfl) rfl
theorem q1202 : (Jvm.Cond.instanceMethod ({ cls := "Trellistag", name := "word", desc := "()I" } : Jvm.MethodName)) ∈ lw_all := lw_g (lw_at lw_m5 207 rfl) rfl
theorem q1203 : (Jvm.Cond.selects "Trellistag" ({ cls := "Trellistag", name := "word", desc := "()I" } : Jvm.MethodName) ({ cls := "Trellistag", name := "word", desc := "()I" } : Jvm.MethodName)) ∈ lw_all := lw_g (lw_at lw_m5 208 rfl) rfl
theorem q1204 : (Jvm.Cond.code ({ cls := "Trellistag", name := "word", desc := "()I" } : Jvm.MethodName) prog_1_method_13_code (1 : Nat) (Option.some Jvm.ClassFile.FieldType.int)) ∈ lw_all := lw_g (lw_at lw_m5 209 rfl) rfl
theorem q1209 : (Jvm.Cond.instanceMethod ({ cls := "Trellistag", name := "lock", desc := "(II)I" } : Jvm.MethodName)) ∈ lw_all := lw_g (lw_at lw_m5 214 rfl) rfl
theorem q1210 : (Jvm.Cond.selects "Trellistag" ({ cls := "Trellistag", name := "lock", desc := "(II)I" } : Jvm.MethodName) ({ cls := "Trellistag", name := "lock", desc := "(II)I" } : Jvm.MethodName)) ∈ lw_all := lw_g (lw_at lw_m5 215 rfl) rfl
theorem q1211 : (Jvm.Cond.code ({ cls := "Trellistag", name := "lock", desc := "(II)I" } : Jvm.MethodName) prog_1_method_15_code (4 : Nat) (Option.some Jvm.ClassFile.FieldType.int)) ∈ lw_all := lw_g (lw_at lw_m5 216 rfl) rfl
theorem q1216 : (Jvm.Cond.instanceMethod ({ cls := "Trellistag", name := "weight", desc := "(I)I" } : Jvm.MethodName)) ∈ lw_all := lw_g (lw_at lw_m5 221 rfl) rfl
theorem q1217 : (Jvm.Cond.selects "Trellistag" ({ cls := "Trellistag", name := "weight", desc := "(I)I" } : Jvm.MethodName) ({ cls := "Trellistag", name := "weight", desc := "(I)I" } : Jvm.MethodName)) ∈ lw_all := lw_g (lw_at lw_m5 222 rfl) rfl
theorem q1218 : (Jvm.Cond.code ({ cls := "Trellistag", name := "weight", desc := "(I)I" } : Jvm.MethodName) prog_1_method_16_code (2 : Nat) (Option.some Jvm.ClassFile.FieldType.int)) ∈ lw_all := lw_g (lw_at lw_m5 223 rfl) rfl
theorem q1219 : (Jvm.Cond.methodLink "Trellistag" (182 : Nat) ({ cls := "Trellistag", name := "weightOf", desc := "(Ljava/lang/String;I)I" } : Jvm.MethodName)) ∈ lw_all := lw_g (lw_at lw_m5 224 rfl) rfl
theorem q1220 : (Jvm.Cond.privateMethod ({ cls := "Trellistag", name := "weightOf", desc := "(Ljava/lang/String;I)I" } : Jvm.MethodName)) ∈ lw_tbl := lw_at lw_m5 225 rfl
theorem q1221 : (Jvm.Cond.instanceMethod ({ cls := "Trellistag", name := "weightOf", desc := "(Ljava/lang/String;I)I" } : Jvm.MethodName)) ∈ lw_all := lw_g (lw_at lw_m5 226 rfl) rfl
theorem q1222 : (Jvm.Cond.code ({ cls := "Trellistag", name := "weightOf", desc := "(Ljava/lang/String;I)I" } : Jvm.MethodName) prog_1_method_6_code (4 : Nat) (Option.some Jvm.ClassFile.FieldType.int)) ∈ lw_all := lw_g (lw_at lw_m5 227 rfl) rfl
theorem q1223 : (Jvm.Cond.methodLink "Trellistag" (81 : Nat) ({ cls := "Trellistag$Words", name := "rowOf", desc := "(Ljava/lang/String;)[I" } : Jvm.MethodName)) ∈ lw_all := lw_g (lw_at lw_m5 228 rfl) rfl
theorem q1229 : (Jvm.Cond.methodLink "Trellistag" (85 : Nat) ({ cls := "Trellistag$Words", name := "weight", desc := "([II)I" } : Jvm.MethodName)) ∈ lw_all := lw_g (lw_at lw_m5 234 rfl) rfl
theorem q1245 : (Jvm.Cond.methodLink "Trellistag" (89 : Nat) ({ cls := "Trellistag$Endings", name := "rowOf", desc := "(Ljava/lang/String;)[I" } : Jvm.MethodName)) ∈ lw_all := lw_g (lw_at lw_m6 10 rfl) rfl
theorem q1251 : (Jvm.Cond.methodLink "Trellistag" (90 : Nat) ({ cls := "Trellistag$Endings", name := "weight", desc := "([II)I" } : Jvm.MethodName)) ∈ lw_all := lw_g (lw_at lw_m6 16 rfl) rfl
theorem q1258 : (Jvm.Cond.instanceMethod ({ cls := "Trellistag", name := "step", desc := "(II)I" } : Jvm.MethodName)) ∈ lw_all := lw_g (lw_at lw_m6 23 rfl) rfl
theorem q1259 : (Jvm.Cond.selects "Trellistag" ({ cls := "Trellistag", name := "step", desc := "(II)I" } : Jvm.MethodName) ({ cls := "Trellistag", name := "step", desc := "(II)I" } : Jvm.MethodName)) ∈ lw_all := lw_g (lw_at lw_m6 24 rfl) rfl
theorem q1260 : (Jvm.Cond.code ({ cls := "Trellistag", name := "step", desc := "(II)I" } : Jvm.MethodName) prog_1_method_17_code (3 : Nat) (Option.some Jvm.ClassFile.FieldType.int)) ∈ lw_all := lw_g (lw_at lw_m6 25 rfl) rfl
theorem q1261 : (Jvm.Cond.methodLink "Trellistag" (186 : Nat) ({ cls := "Trellistag", name := "stepOf", desc := "(II)I" } : Jvm.MethodName)) ∈ lw_all := lw_g (lw_at lw_m6 26 rfl) rfl
theorem q1262 : (Jvm.Cond.privateMethod ({ cls := "Trellistag", name := "stepOf", desc := "(II)I" } : Jvm.MethodName)) ∈ lw_tbl := lw_at lw_m6 27 rfl
theorem q1263 : (Jvm.Cond.instanceMethod ({ cls := "Trellistag", name := "stepOf", desc := "(II)I" } : Jvm.MethodName)) ∈ lw_all := lw_g (lw_at lw_m6 28 rfl) rfl
theorem q1264 : (Jvm.Cond.code ({ cls := "Trellistag", name := "stepOf", desc := "(II)I" } : Jvm.MethodName) prog_1_method_7_code (3 : Nat) (Option.some Jvm.ClassFile.FieldType.int)) ∈ lw_all := lw_g (lw_at lw_m6 29 rfl) rfl
theorem q1265 : (Jvm.Cond.methodLink "Trellistag" (91 : Nat) ({ cls := "java/lang/Math", name := "min", desc := "(II)I" } : Jvm.MethodName)) ∈ lw_all := lw_g (lw_at lw_m6 30 rfl) rfl
theorem q1270 : (Jvm.Cond.instanceMethod ({ cls := "Trellistag", name := "path", desc := "(II)I" } : Jvm.MethodName)) ∈ lw_all := lw_g (lw_at lw_m6 35 rfl) rfl
theorem q1271 : (Jvm.Cond.selects "Trellistag" ({ cls := "Trellistag", name := "path", desc := "(II)I" } : Jvm.MethodName) ({ cls := "Trellistag", name := "path", desc := "(II)I" } : Jvm.MethodName)) ∈ lw_all := lw_g (lw_at lw_m6 36 rfl) rfl
theorem q1272 : (Jvm.Cond.code ({ cls := "Trellistag", name := "path", desc := "(II)I" } : Jvm.MethodName) prog_1_method_18_code (4 : Nat) (Option.some Jvm.ClassFile.FieldType.int)) ∈ lw_all := lw_g (lw_at lw_m6 37 rfl) rfl
theorem q1273 : (Jvm.Cond.classLink "Trellistag" (189 : Nat) "Trellistag$Trellis") ∈ lw_all := lw_g (lw_at lw_m6 38 rfl) rfl
theorem q1275 : (Jvm.Cond.methodLink "Trellistag" (191 : Nat) ({ cls := "Trellistag$Trellis", name := "<init>", desc := "(LTrellistag;)V" } : Jvm.MethodName)) ∈ lw_all := lw_g (lw_at lw_m6 40 rfl) rfl
theorem q1301 : (Jvm.Cond.methodLink "Trellistag" (194 : Nat) ({ cls := "Trellistag$Trellis", name := "ranked", desc := "(I)Ljava/util/List;" } : Jvm.MethodName)) ∈ lw_all := lw_g (lw_at lw_m6 66 rfl) rfl
theorem q1364 : (Jvm.Cond.fieldLink "Trellistag" (200 : Nat) "Trellistag$Path" "tags" "[I") ∈ lw_all := lw_g (lw_at lw_m6 129 rfl) rfl
theorem q1369 : (Jvm.Cond.fieldLink "Trellistag" (215 : Nat) "Trellistag$Path" "weight" "J") ∈ lw_all := lw_g (lw_at lw_m6 134 rfl) rfl
theorem q1437 : (Jvm.Cond.classLink "Trellistag" (198 : Nat) "Trellistag$Path") ∈ lw_all := lw_g (lw_at lw_m6 202 rfl) rfl
theorem q1442 : (Jvm.Cond.instanceMethod ({ cls := "Trellistag", name := "pathAnew", desc := "(II)I" } : Jvm.MethodName)) ∈ lw_all := lw_g (lw_at lw_m6 207 rfl) rfl
theorem q1443 : (Jvm.Cond.selects "Trellistag" ({ cls := "Trellistag", name := "pathAnew", desc := "(II)I" } : Jvm.MethodName) ({ cls := "Trellistag", name := "pathAnew", desc := "(II)I" } : Jvm.MethodName)) ∈ lw_all := lw_g (lw_at lw_m6 208 rfl) rfl
theorem q1444 : (Jvm.Cond.code ({ cls := "Trellistag", name := "pathAnew", desc := "(II)I" } : Jvm.MethodName) prog_1_method_19_code (4 : Nat) (Option.some Jvm.ClassFile.FieldType.int)) ∈ lw_all := lw_g (lw_at lw_m6 209 rfl) rfl
theorem q1445 : (Jvm.Cond.classLink "Trellistag" (203 : Nat) "Trellistag$All") ∈ lw_all := lw_g (lw_at lw_m6 210 rfl) rfl
theorem q1447 : (Jvm.Cond.methodLink "Trellistag" (205 : Nat) ({ cls := "Trellistag$All", name := "<init>", desc := "(LTrellistag$Trellis;I)V" } : Jvm.MethodName)) ∈ lw_all := lw_g (lw_at lw_m6 212 rfl) rfl
theorem q1456 : (Jvm.Cond.fieldLinkNest "Trellistag" (212 : Nat) "Trellistag$All" "best" "Ljava/util/List;" "Trellistag") ∈ lw_tbl := lw_at lw_m6 221 rfl
theorem q1459 : (Jvm.Cond.fieldLinkNest "Trellistag" (232 : Nat) "Trellistag$All" "sums" "[J" "Trellistag") ∈ lw_tbl := lw_at lw_m6 224 rfl
theorem q1471 : (Jvm.Cond.methodLink "Trellistag" (208 : Nat) ({ cls := "Trellistag$All", name := "goOn", desc := "(IJ)V" } : Jvm.MethodName)) ∈ lw_all := lw_g (lw_at lw_m6 236 rfl) rfl
theorem q1520 : (Jvm.Cond.instanceMethod ({ cls := "Trellistag", name := "product", desc := "(I)J" } : Jvm.MethodName)) ∈ lw_all := lw_g (lw_at lw_m7 45 rfl) rfl
theorem q1521 : (Jvm.Cond.selects "Trellistag" ({ cls := "Trellistag", name := "product", desc := "(I)J" } : Jvm.MethodName) ({ cls := "Trellistag", name := "product", desc := "(I)J" } : Jvm.MethodName)) ∈ lw_all := lw_g (lw_at lw_m7 46 rfl) rfl
theorem q1522 : (Jvm.Cond.code ({ cls := "Trellistag", name := "product", desc := "(I)J" } : Jvm.MethodName) prog_1_method_20_code (3 : Nat) (Option.some Jvm.ClassFile.FieldType.long)) ∈ lw_all := lw_g (lw_at lw_m7 47 rfl) rfl
theorem q1527 : (Jvm.Cond.instanceMethod ({ cls := "Trellistag", name := "cost", desc := "()I" } : Jvm.MethodName)) ∈ lw_all := lw_g (lw_at lw_m7 52 rfl) rfl
theorem q1528 : (Jvm.Cond.selects "Trellistag" ({ cls := "Trellistag", name := "cost", desc := "()I" } : Jvm.MethodName) ({ cls := "Trellistag", name := "cost", desc := "()I" } : Jvm.MethodName)) ∈ lw_all := lw_g (lw_at lw_m7 53 rfl) rfl
theorem q1529 : (Jvm.Cond.code ({ cls := "Trellistag", name := "cost", desc := "()I" } : Jvm.MethodName) prog_1_method_21_code (4 : Nat) (Option.some Jvm.ClassFile.FieldType.int)) ∈ lw_all := lw_g (lw_at lw_m7 54 rfl) rfl
theorem q1530 : (Jvm.Cond.constantLong "Trellistag" (218 : Nat) (1152921504606846975 : Int64)) ∈ lw_all := lw_g (lw_at lw_m7 55 rfl) rfl
theorem q1531 : (Jvm.Cond.constantLong "Trellistag" (220 : Nat) (2 : Int64)) ∈ lw_all := lw_g (lw_at lw_m7 56 rfl) rfl
theorem q1536 : (Jvm.Cond.instanceMethod ({ cls := "Trellistag", name := "share", desc := "(II)I" } : Jvm.MethodName)) ∈ lw_all := lw_g (lw_at lw_m7 61 rfl) rfl
theorem q1537 : (Jvm.Cond.selects "Trellistag" ({ cls := "Trellistag", name := "share", desc := "(II)I" } : Jvm.MethodName) ({ cls := "Trellistag", name := "share", desc := "(II)I" } : Jvm.MethodName)) ∈ lw_all := lw_g (lw_at lw_m7 62 rfl) rfl
theorem q1538 : (Jvm.Cond.code ({ cls := "Trellistag", name := "share", desc := "(II)I" } : Jvm.MethodName) prog_1_method_23_code (3 : Nat) (Option.some Jvm.ClassFile.FieldType.int)) ∈ lw_all := lw_g (lw_at lw_m7 63 rfl) rfl
theorem q1539 : (Jvm.Cond.methodLink "Trellistag" (224 : Nat) ({ cls := "Trellistag$Trellis", name := "sums", desc := "(I)[J" } : Jvm.MethodName)) ∈ lw_all := lw_g (lw_at lw_m7 64 rfl) rfl
theorem q1543 : (Jvm.Cond.methodLink "Trellistag" (228 : Nat) ({ cls := "Trellistag", name := "shareOf", desc := "([JI)I" } : Jvm.MethodName)) ∈ lw_all := lw_g (lw_at lw_m7 68 rfl) rfl
theorem q1544 : (Jvm.Cond.static ({ cls := "Trellistag", name := "shareOf", desc := "([JI)I" } : Jvm.MethodName)) ∈ lw_all := lw_g (lw_at lw_m7 69 rfl) rfl
theorem q1545 : (Jvm.Cond.code ({ cls := "Trellistag", name := "shareOf", desc := "([JI)I" } : Jvm.MethodName) prog_1_method_22_code (9 : Nat) (Option.some Jvm.ClassFile.FieldType.int)) ∈ lw_all := lw_g (lw_at lw_m7 70 rfl) rfl
theorem q1546 : (Jvm.Cond.constantLong "Trellistag" (222 : Nat) (1000 : Int64)) ∈ lw_all := lw_g (lw_at lw_m7 71 rfl) rfl
theorem q1551 : (Jvm.Cond.instanceMethod ({ cls := "Trellistag", name := "shareAnew", desc := "(II)I" } : Jvm.MethodName)) ∈ lw_all := lw_g (lw_at lw_m7 76 rfl) rfl
theorem q1552 : (Jvm.Cond.selects "Trellistag" ({ cls := "Trellistag", name := "shareAnew", desc := "(II)I" } : Jvm.MethodName) ({ cls := "Trellistag", name := "shareAnew", desc := "(II)I" } : Jvm.MethodName)) ∈ lw_all := lw_g (lw_at lw_m7 77 rfl) rfl
theorem q1553 : (Jvm.Cond.code ({ cls := "Trellistag", name := "shareAnew", desc := "(II)I" } : Jvm.MethodName) prog_1_method_24_code (4 : Nat) (Option.some Jvm.ClassFile.FieldType.int)) ∈ lw_all := lw_g (lw_at lw_m7 78 rfl) rfl
theorem q1784 : (Jvm.Cond.castable "Trellistag" "java/lang/Object") ∈ lw_tbl := lw_at lw_m8 69 rfl
theorem in_X1 : ∀ w ∈ wsX10, w ∈ lw_all := lw_in wsX10 [189, 191, 193, 195, 197, 199, 201, 203, 205] (by decide +kernel) (by decide +kernel)

/-! Trellistag$Counts -/
set_option maxRecDepth 100000
def RX2 : String := "Trellistag$Counts"
abbrev cX2_init : ByteArray := prog_4_method_1_code
def yX2_init : MethodName := ⟨RX2, "<init>", "()V"⟩
def dkwX2_init_0 : List UInt8 := [42, 183, 0, 3, 42, 187, 0, 9, 89, 183, 0, 11, 181, 0, 12, 177]
abbrev dktX2_init_0 : List UInt8 := dkwX2_init_0 ++ []
theorem dksX2_init_0 : cX2_init.data.toList.drop 0 = dktX2_init_0 := by decide +kernel
theorem dX2_init_0 : decode cX2_init 0 = .ok (.aload_n 0, 1) := dk_42 (dk_at dksX2_init_0 0 rfl rfl)
theorem dX2_init_1 : decode cX2_init 1 = .ok (.invokespecial 3, 3) := dk_183 0 3 (dk_at dksX2_init_0 1 rfl rfl)
theorem dX2_init_4 : decode cX2_init 4 = .ok (.aload_n 0, 1) := dk_42 (dk_at dksX2_init_0 4 rfl rfl)
theorem dX2_init_5 : decode cX2_init 5 = .ok (.new 9, 3) := dk_187 0 9 (dk_at dksX2_init_0 5 rfl rfl)
theorem dX2_init_8 : decode cX2_init 8 = .ok (.dup, 1) := dk_89 (dk_at dksX2_init_0 8 rfl rfl)
theorem dX2_init_9 : decode cX2_init 9 = .ok (.invokespecial 11, 3) := dk_183 0 11 (dk_at dksX2_init_0 9 rfl rfl)
theorem dX2_init_12 : decode cX2_init 12 = .ok (.putfield 12, 3) := dk_181 0 12 (dk_at dksX2_init_0 12 rfl rfl)
theorem dX2_init_15 : decode cX2_init 15 = .ok (.return_, 1) := dk_177 (dk_at dksX2_init_0 15 rfl rfl)
abbrev cX2_note : ByteArray := prog_4_method_2_code
def yX2_note : MethodName := ⟨RX2, "note", "(Ljava/lang/String;II)V"⟩
def dkwX2_note_1 : List UInt8 := [180, 0, 12, 43, 25, 4, 182, 0, 24, 87, 25, 4, 28, 92, 46, 29, 96, 79, 177]
abbrev dktX2_note_1 : List UInt8 := dkwX2_note_1 ++ []
def dkwX2_note_0 : List UInt8 := [42, 180, 0, 12, 43, 182, 0, 18, 192, 0, 22, 58, 4, 25, 4, 199, 0, 19, 8, 188, 10, 58, 4, 42]
abbrev dktX2_note_0 : List UInt8 := dkwX2_note_0 ++ dktX2_note_1
theorem dksX2_note_0 : cX2_note.data.toList.drop 0 = dktX2_note_0 := by decide +kernel
theorem dksX2_note_1 : cX2_note.data.toList.drop 24 = dktX2_note_1 := dk_seg dksX2_note_0 24 rfl rfl
theorem dX2_note_0 : decode cX2_note 0 = .ok (.aload_n 0, 1) := dk_42 (dk_at dksX2_note_0 0 rfl rfl)
theorem dX2_note_1 : decode cX2_note 1 = .ok (.getfield 12, 3) := dk_180 0 12 (dk_at dksX2_note_0 1 rfl rfl)
theorem dX2_note_4 : decode cX2_note 4 = .ok (.aload_n 1, 1) := dk_43 (dk_at dksX2_note_0 4 rfl rfl)
theorem dX2_note_5 : decode cX2_note 5 = .ok (.invokevirtual 18, 3) := dk_182 0 18 (dk_at dksX2_note_0 5 rfl rfl)
theorem dX2_note_8 : decode cX2_note 8 = .ok (.checkcast 22, 3) := dk_192 0 22 (dk_at dksX2_note_0 8 rfl rfl)
theorem dX2_note_11 : decode cX2_note 11 = .ok (.astore 4, 2) := dk_58 4 (dk_at dksX2_note_0 11 rfl rfl)
theorem dX2_note_13 : decode cX2_note 13 = .ok (.aload 4, 2) := dk_25 4 (dk_at dksX2_note_0 13 rfl rfl)
theorem dX2_note_15 : decode cX2_note 15 = .ok (.ifnonnull 19, 3) := dk_199 0 19 (dk_at dksX2_note_0 15 rfl rfl)
theorem dX2_note_18 : decode cX2_note 18 = .ok (.iconst 5, 1) := dk_8 (dk_at dksX2_note_0 18 rfl rfl)
theorem dX2_note_19 : decode cX2_note 19 = .ok (.newarray .int, 2) := dk_188_10 (dk_at dksX2_note_0 19 rfl rfl)
theorem dX2_note_21 : decode cX2_note 21 = .ok (.astore 4, 2) := dk_58 4 (dk_at dksX2_note_0 21 rfl rfl)
theorem dX2_note_23 : decode cX2_note 23 = .ok (.aload_n 0, 1) := dk_42 (dk_at dksX2_note_0 23 rfl rfl)
theorem dX2_note_24 : decode cX2_note 24 = .ok (.getfield 12, 3) := dk_180 0 12 (dk_at dksX2_note_1 0 rfl rfl)
theorem dX2_note_27 : decode cX2_note 27 = .ok (.aload_n 1, 1) := dk_43 (dk_at dksX2_note_1 3 rfl rfl)
theorem dX2_note_28 : decode cX2_note 28 = .ok (.aload 4, 2) := dk_25 4 (dk_at dksX2_note_1 4 rfl rfl)
theorem dX2_note_30 : decode cX2_note 30 = .ok (.invokevirtual 24, 3) := dk_182 0 24 (dk_at dksX2_note_1 6 rfl rfl)
theorem dX2_note_33 : decode cX2_note 33 = .ok (.pop, 1) := dk_87 (dk_at dksX2_note_1 9 rfl rfl)
theorem dX2_note_34 : decode cX2_note 34 = .ok (.aload 4, 2) := dk_25 4 (dk_at dksX2_note_1 10 rfl rfl)
theorem dX2_note_36 : decode cX2_note 36 = .ok (.iload_n 2, 1) := dk_28 (dk_at dksX2_note_1 12 rfl rfl)
theorem dX2_note_37 : decode cX2_note 37 = .ok (.dup2, 1) := dk_92 (dk_at dksX2_note_1 13 rfl rfl)
theorem dX2_note_38 : decode cX2_note 38 = .ok (.iaload, 1) := dk_46 (dk_at dksX2_note_1 14 rfl rfl)
theorem dX2_note_39 : decode cX2_note 39 = .ok (.iload_n 3, 1) := dk_29 (dk_at dksX2_note_1 15 rfl rfl)
theorem dX2_note_40 : decode cX2_note 40 = .ok (.iadd, 1) := dk_96 (dk_at dksX2_note_1 16 rfl rfl)
theorem dX2_note_41 : decode cX2_note 41 = .ok (.iastore, 1) := dk_79 (dk_at dksX2_note_1 17 rfl rfl)
theorem dX2_note_42 : decode cX2_note 42 = .ok (.return_, 1) := dk_177 (dk_at dksX2_note_1 18 rfl rfl)
abbrev cX2_rowOf : ByteArray := prog_4_method_3_code
def yX2_rowOf : MethodName := ⟨RX2, "rowOf", "(Ljava/lang/String;)[I"⟩
def dkwX2_rowOf_2 : List UInt8 := [44, 176]
abbrev dktX2_rowOf_2 : List UInt8 := dkwX2_rowOf_2 ++ []
def dkwX2_rowOf_1 : List UInt8 := [198, 0, 16, 29, 44, 21, 4, 46, 96, 62, 132, 4, 1, 167, 255, 236, 29, 154, 0, 7, 1, 167, 0, 4]
abbrev dktX2_rowOf_1 : List UInt8 := dkwX2_rowOf_1 ++ dktX2_rowOf_2
def dkwX2_rowOf_0 : List UInt8 := [42, 180, 0, 12, 43, 182, 0, 18, 192, 0, 22, 77, 3, 62, 3, 54, 4, 21, 4, 8, 162, 0, 20, 44]
abbrev dktX2_rowOf_0 : List UInt8 := dkwX2_rowOf_0 ++ dktX2_rowOf_1
theorem dksX2_rowOf_0 : cX2_rowOf.data.toList.drop 0 = dktX2_rowOf_0 := by decide +kernel
theorem dksX2_rowOf_1 : cX2_rowOf.data.toList.drop 24 = dktX2_rowOf_1 := dk_seg dksX2_rowOf_0 24 rfl rfl
theorem dksX2_rowOf_2 : cX2_rowOf.data.toList.drop 48 = dktX2_rowOf_2 := dk_seg dksX2_rowOf_1 24 rfl rfl
theorem dX2_rowOf_0 : decode cX2_rowOf 0 = .ok (.aload_n 0, 1) := dk_42 (dk_at dksX2_rowOf_0 0 rfl rfl)
theorem dX2_rowOf_1 : decode cX2_rowOf 1 = .ok (.getfield 12, 3) := dk_180 0 12 (dk_at dksX2_rowOf_0 1 rfl rfl)
theorem dX2_rowOf_4 : decode cX2_rowOf 4 = .ok (.aload_n 1, 1) := dk_43 (dk_at dksX2_rowOf_0 4 rfl rfl)
theorem dX2_rowOf_5 : decode cX2_rowOf 5 = .ok (.invokevirtual 18, 3) := dk_182 0 18 (dk_at dksX2_rowOf_0 5 rfl rfl)
theorem dX2_rowOf_8 : decode cX2_rowOf 8 = .ok (.checkcast 22, 3) := dk_192 0 22 (dk_at dksX2_rowOf_0 8 rfl rfl)
theorem dX2_rowOf_11 : decode cX2_rowOf 11 = .ok (.astore_n 2, 1) := dk_77 (dk_at dksX2_rowOf_0 11 rfl rfl)
theorem dX2_rowOf_12 : decode cX2_rowOf 12 = .ok (.iconst 0, 1) := dk_3 (dk_at dksX2_rowOf_0 12 rfl rfl)
theorem dX2_rowOf_13 : decode cX2_rowOf 13 = .ok (.istore_n 3, 1) := dk_62 (dk_at dksX2_rowOf_0 13 rfl rfl)
theorem dX2_rowOf_14 : decode cX2_rowOf 14 = .ok (.iconst 0, 1) := dk_3 (dk_at dksX2_rowOf_0 14 rfl rfl)
theorem dX2_rowOf_15 : decode cX2_rowOf 15 = .ok (.istore 4, 2) := dk_54 4 (dk_at dksX2_rowOf_0 15 rfl rfl)
theorem dX2_rowOf_17 : decode cX2_rowOf 17 = .ok (.iload 4, 2) := dk_21 4 (dk_at dksX2_rowOf_0 17 rfl rfl)
theorem dX2_rowOf_19 : decode cX2_rowOf 19 = .ok (.iconst 5, 1) := dk_8 (dk_at dksX2_rowOf_0 19 rfl rfl)
theorem dX2_rowOf_20 : decode cX2_rowOf 20 = .ok (.if_icmp .ge 20, 3) := dk_162 0 20 (dk_at dksX2_rowOf_0 20 rfl rfl)
theorem dX2_rowOf_23 : decode cX2_rowOf 23 = .ok (.aload_n 2, 1) := dk_44 (dk_at dksX2_rowOf_0 23 rfl rfl)
theorem dX2_rowOf_24 : decode cX2_rowOf 24 = .ok (.ifnull 16, 3) := dk_198 0 16 (dk_at dksX2_rowOf_1 0 rfl rfl)
theorem dX2_rowOf_27 : decode cX2_rowOf 27 = .ok (.iload_n 3, 1) := dk_29 (dk_at dksX2_rowOf_1 3 rfl rfl)
theorem dX2_rowOf_28 : decode cX2_rowOf 28 = .ok (.aload_n 2, 1) := dk_44 (dk_at dksX2_rowOf_1 4 rfl rfl)
theorem dX2_rowOf_29 : decode cX2_rowOf 29 = .ok (.iload 4, 2) := dk_21 4 (dk_at dksX2_rowOf_1 5 rfl rfl)
theorem dX2_rowOf_31 : decode cX2_rowOf 31 = .ok (.iaload, 1) := dk_46 (dk_at dksX2_rowOf_1 7 rfl rfl)
theorem dX2_rowOf_32 : decode cX2_rowOf 32 = .ok (.iadd, 1) := dk_96 (dk_at dksX2_rowOf_1 8 rfl rfl)
theorem dX2_rowOf_33 : decode cX2_rowOf 33 = .ok (.istore_n 3, 1) := dk_62 (dk_at dksX2_rowOf_1 9 rfl rfl)
theorem dX2_rowOf_34 : decode cX2_rowOf 34 = .ok (.iinc 4 1, 3) := dk_132 4 1 (dk_at dksX2_rowOf_1 10 rfl rfl)
theorem dX2_rowOf_37 : decode cX2_rowOf 37 = .ok (.goto (-20), 3) := dk_167 255 236 (dk_at dksX2_rowOf_1 13 rfl rfl)
theorem dX2_rowOf_40 : decode cX2_rowOf 40 = .ok (.iload_n 3, 1) := dk_29 (dk_at dksX2_rowOf_1 16 rfl rfl)
theorem dX2_rowOf_41 : decode cX2_rowOf 41 = .ok (.ifCond .ne 7, 3) := dk_154 0 7 (dk_at dksX2_rowOf_1 17 rfl rfl)
theorem dX2_rowOf_44 : decode cX2_rowOf 44 = .ok (.aconst_null, 1) := dk_1 (dk_at dksX2_rowOf_1 20 rfl rfl)
theorem dX2_rowOf_45 : decode cX2_rowOf 45 = .ok (.goto 4, 3) := dk_167 0 4 (dk_at dksX2_rowOf_1 21 rfl rfl)
theorem dX2_rowOf_48 : decode cX2_rowOf 48 = .ok (.aload_n 2, 1) := dk_44 (dk_at dksX2_rowOf_2 0 rfl rfl)
theorem dX2_rowOf_49 : decode cX2_rowOf 49 = .ok (.areturn, 1) := dk_176 (dk_at dksX2_rowOf_2 1 rfl rfl)
theorem q37 : (Jvm.Cond.initialized "Trellistag$Counts") ∈ lw_all := lw_g (lw_at lw_m1 2 rfl) rfl
theorem q98 : (Jvm.Cond.instanceMethod ({ cls := "Trellistag$Counts", name := "<init>", desc := "()V" } : Jvm.MethodName)) ∈ lw_all := lw_g (lw_at lw_m1 63 rfl) rfl
theorem q99 : (Jvm.Cond.code ({ cls := "Trellistag$Counts", name := "<init>", desc := "()V" } : Jvm.MethodName) prog_4_method_1_code (1 : Nat) (Option.none : Option Jvm.ClassFile.FieldType)) ∈ lw_all := lw_g (lw_at lw_m1 64 rfl) rfl
theorem q100 : (Jvm.Cond.methodLink "Trellistag$Counts" (3 : Nat) ({ cls := "java/lang/Object", name := "<init>", desc := "()V" } : Jvm.MethodName)) ∈ lw_all := lw_g (lw_at lw_m1 65 rfl) rfl
theorem q101 : (Jvm.Cond.classLink "Trellistag$Counts" (9 : Nat) "java/util/TreeMap") ∈ lw_all := lw_g (lw_at lw_m1 66 rfl) rfl
theorem q103 : (Jvm.Cond.methodLink "Trellistag$Counts" (11 : Nat) ({ cls := "java/util/TreeMap", name := "<init>", desc := "()V" } : Jvm.MethodName)) ∈ lw_all := lw_g (lw_at lw_m1 68 rfl) rfl
theorem q133 : (Jvm.Cond.fieldLink "Trellistag$Counts" (12 : Nat) "Trellistag$Counts" "rows" "Ljava/util/TreeMap;") ∈ lw_all := lw_g (lw_at lw_m1 98 rfl) rfl
theorem q135 : (Jvm.Cond.soleField "Trellistag$Counts" "rows") ∈ lw_all := lw_g (lw_at lw_m1 100 rfl) rfl
theorem q832 : (Jvm.Cond.declares ({ cls := "Trellistag$Counts", name := "note", desc := "(Ljava/lang/String;II)V" } : Jvm.MethodName)) ∈ lw_tbl := lw_at lw_m4 77 rfl
theorem q834 : (Jvm.Cond.instanceMethod ({ cls := "Trellistag$Counts", name := "note", desc := "(Ljava/lang/String;II)V" } : Jvm.MethodName)) ∈ lw_all := lw_g (lw_at lw_m4 79 rfl) rfl
theorem q835 : (Jvm.Cond.code ({ cls := "Trellistag$Counts", name := "note", desc := "(Ljava/lang/String;II)V" } : Jvm.MethodName) prog_4_method_2_code (5 : Nat) (Option.none : Option Jvm.ClassFile.FieldType)) ∈ lw_all := lw_g (lw_at lw_m4 80 rfl) rfl
theorem q836 : (Jvm.Cond.methodLink "Trellistag$Counts" (18 : Nat) ({ cls := "java/util/TreeMap", name := "get", desc := "(Ljava/lang/Object;)Ljava/lang/Object;" } : Jvm.MethodName)) ∈ lw_all := lw_g (lw_at lw_m4 81 rfl) rfl
theorem q1062 : (Jvm.Cond.classLink "Trellistag$Counts" (22 : Nat) "[I") ∈ lw_all := lw_g (lw_at lw_m5 67 rfl) rfl
theorem q1063 : (Jvm.Cond.methodLink "Trellistag$Counts" (24 : Nat) ({ cls := "java/util/TreeMap", name := "put", desc := "(Ljava/lang/Object;Ljava/lang/Object;)Ljava/lang/Object;" } : Jvm.MethodName)) ∈ lw_all := lw_g (lw_at lw_m5 68 rfl) rfl
theorem q1225 : (Jvm.Cond.declares ({ cls := "Trellistag$Counts", name := "rowOf", desc := "(Ljava/lang/String;)[I" } : Jvm.MethodName)) ∈ lw_tbl := lw_at lw_m5 230 rfl
theorem q1227 : (Jvm.Cond.instanceMethod ({ cls := "Trellistag$Counts", name := "rowOf", desc := "(Ljava/lang/String;)[I" } : Jvm.MethodName)) ∈ lw_all := lw_g (lw_at lw_m5 232 rfl) rfl
theorem q1228 : (Jvm.Cond.code ({ cls := "Trellistag$Counts", name := "rowOf", desc := "(Ljava/lang/String;)[I" } : Jvm.MethodName) prog_4_method_3_code (5 : Nat) (Option.some (Jvm.ClassFile.FieldType.array Jvm.ClassFile.FieldType.int))) ∈ lw_all := lw_g (lw_at lw_m5 233 rfl) rfl

/-! Trellistag$Weighing -/
set_option maxRecDepth 100000
def RX3 : String := "Trellistag$Weighing"
abbrev cX3_init : ByteArray := prog_10_method_1_code
def yX3_init : MethodName := ⟨RX3, "<init>", "()V"⟩
theorem dX3_init_0 : decode cX3_init 0 = .ok (.aload_n 0, 1) := by decide +kernel
theorem dX3_init_1 : decode cX3_init 1 = .ok (.invokespecial 3, 3) := by decide +kernel
theorem dX3_init_4 : decode cX3_init 4 = .ok (.return_, 1) := by decide +kernel
abbrev cX3_weight : ByteArray := prog_10_method_3_code
def yX3_weight : MethodName := ⟨RX3, "weight", "([II)I"⟩
def dkwX3_weight_0 : List UInt8 := [16, 9, 42, 182, 0, 9, 43, 28, 46, 104, 4, 96, 184, 0, 15, 172]
abbrev dktX3_weight_0 : List UInt8 := dkwX3_weight_0 ++ []
theorem dksX3_weight_0 : cX3_weight.data.toList.drop 0 = dktX3_weight_0 := by decide +kernel
theorem dX3_weight_0 : decode cX3_weight 0 = .ok (.bipush 9, 2) := dk_16 9 (dk_at dksX3_weight_0 0 rfl rfl)
theorem dX3_weight_2 : decode cX3_weight 2 = .ok (.aload_n 0, 1) := dk_42 (dk_at dksX3_weight_0 2 rfl rfl)
theorem dX3_weight_3 : decode cX3_weight 3 = .ok (.invokevirtual 9, 3) := dk_182 0 9 (dk_at dksX3_weight_0 3 rfl rfl)
theorem dX3_weight_6 : decode cX3_weight 6 = .ok (.aload_n 1, 1) := dk_43 (dk_at dksX3_weight_0 6 rfl rfl)
theorem dX3_weight_7 : decode cX3_weight 7 = .ok (.iload_n 2, 1) := dk_28 (dk_at dksX3_weight_0 7 rfl rfl)
theorem dX3_weight_8 : decode cX3_weight 8 = .ok (.iaload, 1) := dk_46 (dk_at dksX3_weight_0 8 rfl rfl)
theorem dX3_weight_9 : decode cX3_weight 9 = .ok (.imul, 1) := dk_104 (dk_at dksX3_weight_0 9 rfl rfl)
theorem dX3_weight_10 : decode cX3_weight 10 = .ok (.iconst 1, 1) := dk_4 (dk_at dksX3_weight_0 10 rfl rfl)
theorem dX3_weight_11 : decode cX3_weight 11 = .ok (.iadd, 1) := dk_96 (dk_at dksX3_weight_0 11 rfl rfl)
theorem dX3_weight_12 : decode cX3_weight 12 = .ok (.invokestatic 15, 3) := dk_184 0 15 (dk_at dksX3_weight_0 12 rfl rfl)
theorem dX3_weight_15 : decode cX3_weight 15 = .ok (.ireturn, 1) := dk_172 (dk_at dksX3_weight_0 15 rfl rfl)
theorem q38 : (Jvm.Cond.initialized "Trellistag$Weighing") ∈ lw_all := lw_g (lw_at lw_m1 3 rfl) rfl
theorem q95 : (Jvm.Cond.instanceMethod ({ cls := "Trellistag$Weighing", name := "<init>", desc := "()V" } : Jvm.MethodName)) ∈ lw_all := lw_g (lw_at lw_m1 60 rfl) rfl
theorem q96 : (Jvm.Cond.code ({ cls := "Trellistag$Weighing", name := "<init>", desc := "()V" } : Jvm.MethodName) prog_10_method_1_code (1 : Nat) (Option.none : Option Jvm.ClassFile.FieldType)) ∈ lw_all := lw_g (lw_at lw_m1 61 rfl) rfl
theorem q97 : (Jvm.Cond.methodLinkNest "Trellistag$Weighing" (3 : Nat) ({ cls := "Trellistag$Counts", name := "<init>", desc := "()V" } : Jvm.MethodName) "Trellistag") ∈ lw_tbl := lw_at lw_m1 62 rfl
theorem q1176 : (Jvm.Cond.sameMethod "Trellistag$Weighing" "Trellistag$Counts" "note" "(Ljava/lang/String;II)V") ∈ lw_all := lw_g (lw_at lw_m5 181 rfl) rfl
theorem q1177 : (Jvm.Cond.superclass "Trellistag$Weighing" "Trellistag$Counts") ∈ lw_all := lw_g (lw_at lw_m5 182 rfl) rfl
theorem q1231 : (Jvm.Cond.declares ({ cls := "Trellistag$Weighing", name := "weight", desc := "([II)I" } : Jvm.MethodName)) ∈ lw_tbl := lw_at lw_m5 236 rfl
theorem q1233 : (Jvm.Cond.instanceMethod ({ cls := "Trellistag$Weighing", name := "weight", desc := "([II)I" } : Jvm.MethodName)) ∈ lw_all := lw_g (lw_at lw_m5 238 rfl) rfl
theorem q1234 : (Jvm.Cond.code ({ cls := "Trellistag$Weighing", name := "weight", desc := "([II)I" } : Jvm.MethodName) prog_10_method_3_code (3 : Nat) (Option.some Jvm.ClassFile.FieldType.int)) ∈ lw_all := lw_g (lw_at lw_m5 239 rfl) rfl
theorem q1235 : (Jvm.Cond.methodLink "Trellistag$Weighing" (9 : Nat) ({ cls := "Trellistag$Weighing", name := "times", desc := "()I" } : Jvm.MethodName)) ∈ lw_all := lw_g (lw_at lw_m6 0 rfl) rfl
theorem q1236 : (Jvm.Cond.declares ({ cls := "Trellistag$Weighing", name := "times", desc := "()I" } : Jvm.MethodName)) ∈ lw_tbl := lw_at lw_m6 1 rfl
theorem q1237 : (Jvm.Cond.sameMethod "Trellistag$Weighing" "Trellistag$Weighing" "times" "()I") ∈ lw_all := lw_g (lw_at lw_m6 2 rfl) rfl
theorem q1244 : (Jvm.Cond.methodLink "Trellistag$Weighing" (15 : Nat) ({ cls := "java/lang/Math", name := "min", desc := "(II)I" } : Jvm.MethodName)) ∈ lw_all := lw_g (lw_at lw_m6 9 rfl) rfl
theorem q1250 : (Jvm.Cond.sameMethod "Trellistag$Weighing" "Trellistag$Counts" "rowOf" "(Ljava/lang/String;)[I") ∈ lw_all := lw_g (lw_at lw_m6 15 rfl) rfl

/-! Trellistag$Words -/
set_option maxRecDepth 100000
def RX4 : String := "Trellistag$Words"
def TX4 : u_T := fun k => match k with
  | _ => ("Trellistag$Counts", "rows", "Ljava/util/TreeMap;", true)
def tyX4 : Nat → FieldType := fun k => match k with
  | _ => .object "java/util/TreeMap"
abbrev wsX40 : List Cond := u_ws RX4 TX4 1
theorem nmX4 : ∀ a, a < 1 → ∀ b, b < 1 → a ≠ b → (TX4 a).2.1 ≠ (TX4 b).2.1 := by decide +kernel
theorem tyX4_ok : ∀ k, k < 1 → parseFieldDescriptor (TX4 k).2.2.1 = some (tyX4 k) := by decide +kernel
abbrev cX4_init : ByteArray := prog_11_method_1_code
def yX4_init : MethodName := ⟨RX4, "<init>", "()V"⟩
theorem dX4_init_0 : decode cX4_init 0 = .ok (.aload_n 0, 1) := by decide +kernel
theorem dX4_init_1 : decode cX4_init 1 = .ok (.invokespecial 1, 3) := by decide +kernel
theorem dX4_init_4 : decode cX4_init 4 = .ok (.return_, 1) := by decide +kernel
abbrev cX4_times : ByteArray := prog_11_method_2_code
def yX4_times : MethodName := ⟨RX4, "times", "()I"⟩
theorem dX4_times_0 : decode cX4_times 0 = .ok (.iconst 4, 1) := by decide +kernel
theorem dX4_times_1 : decode cX4_times 1 = .ok (.ireturn, 1) := by decide +kernel
theorem q39 : (Jvm.Cond.initialized "Trellistag$Words") ∈ lw_all := lw_g (lw_at lw_m1 4 rfl) rfl
theorem q90 : (Jvm.Cond.instantiable "Trellistag$Words" (1 : Nat)) ∈ lw_all := lw_g (lw_at lw_m1 55 rfl) rfl
theorem q92 : (Jvm.Cond.instanceMethod ({ cls := "Trellistag$Words", name := "<init>", desc := "()V" } : Jvm.MethodName)) ∈ lw_all := lw_g (lw_at lw_m1 57 rfl) rfl
theorem q93 : (Jvm.Cond.code ({ cls := "Trellistag$Words", name := "<init>", desc := "()V" } : Jvm.MethodName) prog_11_method_1_code (1 : Nat) (Option.none : Option Jvm.ClassFile.FieldType)) ∈ lw_all := lw_g (lw_at lw_m1 58 rfl) rfl
theorem q94 : (Jvm.Cond.methodLinkNest "Trellistag$Words" (1 : Nat) ({ cls := "Trellistag$Weighing", name := "<init>", desc := "()V" } : Jvm.MethodName) "Trellistag") ∈ lw_tbl := lw_at lw_m1 59 rfl
theorem q134 : (Jvm.Cond.laysFinal "Trellistag$Words" "Trellistag$Counts" "rows" "Ljava/util/TreeMap;") ∈ lw_all := lw_g (lw_at lw_m1 99 rfl) rfl
theorem q136 : (Jvm.Cond.superclass "Trellistag$Words" "Trellistag$Weighing") ∈ lw_all := lw_g (lw_at lw_m1 101 rfl) rfl
theorem q775 : (Jvm.Cond.selects "Trellistag$Words" ({ cls := "java/lang/Object", name := "getClass", desc := "()Ljava/lang/Class;" } : Jvm.MethodName) ({ cls := "java/lang/Object", name := "getClass", desc := "()Ljava/lang/Class;" } : Jvm.MethodName)) ∈ lw_all := lw_g (lw_at lw_m4 20 rfl) rfl
theorem q831 : (Jvm.Cond.sameMethod "Trellistag$Words" "Trellistag$Counts" "note" "(Ljava/lang/String;II)V") ∈ lw_all := lw_g (lw_at lw_m4 76 rfl) rfl
theorem q833 : (Jvm.Cond.selects "Trellistag$Words" ({ cls := "Trellistag$Words", name := "note", desc := "(Ljava/lang/String;II)V" } : Jvm.MethodName) ({ cls := "Trellistag$Counts", name := "note", desc := "(Ljava/lang/String;II)V" } : Jvm.MethodName)) ∈ lw_all := lw_g (lw_at lw_m4 78 rfl) rfl
theorem q1224 : (Jvm.Cond.sameMethod "Trellistag$Words" "Trellistag$Counts" "rowOf" "(Ljava/lang/String;)[I") ∈ lw_all := lw_g (lw_at lw_m5 229 rfl) rfl
theorem q1226 : (Jvm.Cond.selects "Trellistag$Words" ({ cls := "Trellistag$Words", name := "rowOf", desc := "(Ljava/lang/String;)[I" } : Jvm.MethodName) ({ cls := "Trellistag$Counts", name := "rowOf", desc := "(Ljava/lang/String;)[I" } : Jvm.MethodName)) ∈ lw_all := lw_g (lw_at lw_m5 231 rfl) rfl
theorem q1230 : (Jvm.Cond.sameMethod "Trellistag$Words" "Trellistag$Weighing" "weight" "([II)I") ∈ lw_all := lw_g (lw_at lw_m5 235 rfl) rfl
theorem q1232 : (Jvm.Cond.selects "Trellistag$Words" ({ cls := "Trellistag$Words", name := "weight", desc := "([II)I" } : Jvm.MethodName) ({ cls := "Trellistag$Weighing", name := "weight", desc := "([II)I" } : Jvm.MethodName)) ∈ lw_all := lw_g (lw_at lw_m5 237 rfl) rfl
theorem q1241 : (Jvm.Cond.selects "Trellistag$Words" ({ cls := "Trellistag$Weighing", name := "times", desc := "()I" } : Jvm.MethodName) ({ cls := "Trellistag$Words", name := "times", desc := "()I" } : Jvm.MethodName)) ∈ lw_all := lw_g (lw_at lw_m6 6 rfl) rfl
theorem q1242 : (Jvm.Cond.instanceMethod ({ cls := "Trellistag$Words", name := "times", desc := "()I" } : Jvm.MethodName)) ∈ lw_all := lw_g (lw_at lw_m6 7 rfl) rfl
theorem q1243 : (Jvm.Cond.code ({ cls := "Trellistag$Words", name := "times", desc := "()I" } : Jvm.MethodName) prog_11_method_2_code (1 : Nat) (Option.some Jvm.ClassFile.FieldType.int)) ∈ lw_all := lw_g (lw_at lw_m6 8 rfl) rfl
theorem q1785 : (Jvm.Cond.castable "Trellistag$Words" "java/lang/Object") ∈ lw_tbl := lw_at lw_m8 70 rfl
theorem in_X4 : ∀ w ∈ wsX40, w ∈ lw_all := lw_in wsX40 [134] (by decide +kernel) (by decide +kernel)

/-! Trellistag$Endings -/
set_option maxRecDepth 100000
def RX5 : String := "Trellistag$Endings"
def TX5 : u_T := fun k => match k with
  | _ => ("Trellistag$Counts", "rows", "Ljava/util/TreeMap;", true)
def tyX5 : Nat → FieldType := fun k => match k with
  | _ => .object "java/util/TreeMap"
abbrev wsX50 : List Cond := u_ws RX5 TX5 1
theorem nmX5 : ∀ a, a < 1 → ∀ b, b < 1 → a ≠ b → (TX5 a).2.1 ≠ (TX5 b).2.1 := by decide +kernel
theorem tyX5_ok : ∀ k, k < 1 → parseFieldDescriptor (TX5 k).2.2.1 = some (tyX5 k) := by decide +kernel
abbrev cX5_init : ByteArray := prog_5_method_1_code
def yX5_init : MethodName := ⟨RX5, "<init>", "()V"⟩
theorem dX5_init_0 : decode cX5_init 0 = .ok (.aload_n 0, 1) := by decide +kernel
theorem dX5_init_1 : decode cX5_init 1 = .ok (.invokespecial 3, 3) := by decide +kernel
theorem dX5_init_4 : decode cX5_init 4 = .ok (.return_, 1) := by decide +kernel
abbrev cX5_note : ByteArray := prog_5_method_3_code
def yX5_note : MethodName := ⟨RX5, "note", "(Ljava/lang/String;II)V"⟩
def dkwX5_note_1 : List UInt8 := [184, 0, 15, 28, 29, 183, 0, 19, 132, 4, 1, 167, 255, 226, 177]
abbrev dktX5_note_1 : List UInt8 := dkwX5_note_1 ++ []
def dkwX5_note_0 : List UInt8 := [4, 54, 4, 21, 4, 6, 163, 0, 30, 21, 4, 43, 182, 0, 9, 163, 0, 21, 42, 43, 21, 4]
abbrev dktX5_note_0 : List UInt8 := dkwX5_note_0 ++ dktX5_note_1
theorem dksX5_note_0 : cX5_note.data.toList.drop 0 = dktX5_note_0 := by decide +kernel
theorem dksX5_note_1 : cX5_note.data.toList.drop 22 = dktX5_note_1 := dk_seg dksX5_note_0 22 rfl rfl
theorem dX5_note_0 : decode cX5_note 0 = .ok (.iconst 1, 1) := dk_4 (dk_at dksX5_note_0 0 rfl rfl)
theorem dX5_note_1 : decode cX5_note 1 = .ok (.istore 4, 2) := dk_54 4 (dk_at dksX5_note_0 1 rfl rfl)
theorem dX5_note_3 : decode cX5_note 3 = .ok (.iload 4, 2) := dk_21 4 (dk_at dksX5_note_0 3 rfl rfl)
theorem dX5_note_5 : decode cX5_note 5 = .ok (.iconst 3, 1) := dk_6 (dk_at dksX5_note_0 5 rfl rfl)
theorem dX5_note_6 : decode cX5_note 6 = .ok (.if_icmp .gt 30, 3) := dk_163 0 30 (dk_at dksX5_note_0 6 rfl rfl)
theorem dX5_note_9 : decode cX5_note 9 = .ok (.iload 4, 2) := dk_21 4 (dk_at dksX5_note_0 9 rfl rfl)
theorem dX5_note_11 : decode cX5_note 11 = .ok (.aload_n 1, 1) := dk_43 (dk_at dksX5_note_0 11 rfl rfl)
theorem dX5_note_12 : decode cX5_note 12 = .ok (.invokevirtual 9, 3) := dk_182 0 9 (dk_at dksX5_note_0 12 rfl rfl)
theorem dX5_note_15 : decode cX5_note 15 = .ok (.if_icmp .gt 21, 3) := dk_163 0 21 (dk_at dksX5_note_0 15 rfl rfl)
theorem dX5_note_18 : decode cX5_note 18 = .ok (.aload_n 0, 1) := dk_42 (dk_at dksX5_note_0 18 rfl rfl)
theorem dX5_note_19 : decode cX5_note 19 = .ok (.aload_n 1, 1) := dk_43 (dk_at dksX5_note_0 19 rfl rfl)
theorem dX5_note_20 : decode cX5_note 20 = .ok (.iload 4, 2) := dk_21 4 (dk_at dksX5_note_0 20 rfl rfl)
theorem dX5_note_22 : decode cX5_note 22 = .ok (.invokestatic 15, 3) := dk_184 0 15 (dk_at dksX5_note_1 0 rfl rfl)
theorem dX5_note_25 : decode cX5_note 25 = .ok (.iload_n 2, 1) := dk_28 (dk_at dksX5_note_1 3 rfl rfl)
theorem dX5_note_26 : decode cX5_note 26 = .ok (.iload_n 3, 1) := dk_29 (dk_at dksX5_note_1 4 rfl rfl)
theorem dX5_note_27 : decode cX5_note 27 = .ok (.invokespecial 19, 3) := dk_183 0 19 (dk_at dksX5_note_1 5 rfl rfl)
theorem dX5_note_30 : decode cX5_note 30 = .ok (.iinc 4 1, 3) := dk_132 4 1 (dk_at dksX5_note_1 8 rfl rfl)
theorem dX5_note_33 : decode cX5_note 33 = .ok (.goto (-30), 3) := dk_167 255 226 (dk_at dksX5_note_1 11 rfl rfl)
theorem dX5_note_36 : decode cX5_note 36 = .ok (.return_, 1) := dk_177 (dk_at dksX5_note_1 14 rfl rfl)
abbrev cX5_times : ByteArray := prog_5_method_2_code
def yX5_times : MethodName := ⟨RX5, "times", "()I"⟩
theorem dX5_times_0 : decode cX5_times 0 = .ok (.iconst 2, 1) := by decide +kernel
theorem dX5_times_1 : decode cX5_times 1 = .ok (.ireturn, 1) := by decide +kernel
abbrev cX5_rowOf : ByteArray := prog_5_method_4_code
def yX5_rowOf : MethodName := ⟨RX5, "rowOf", "(Ljava/lang/String;)[I"⟩
def dkwX5_rowOf_2 : List UInt8 := [176]
abbrev dktX5_rowOf_2 : List UInt8 := dkwX5_rowOf_2 ++ []
def dkwX5_rowOf_1 : List UInt8 := [183, 0, 23, 58, 4, 25, 4, 199, 0, 7, 44, 167, 0, 5, 25, 4, 77, 132, 3, 1, 167, 255, 217, 44]
abbrev dktX5_rowOf_1 : List UInt8 := dkwX5_rowOf_1 ++ dktX5_rowOf_2
def dkwX5_rowOf_0 : List UInt8 := [1, 77, 4, 62, 29, 6, 163, 0, 40, 29, 43, 182, 0, 9, 163, 0, 32, 42, 43, 29, 184, 0, 15]
abbrev dktX5_rowOf_0 : List UInt8 := dkwX5_rowOf_0 ++ dktX5_rowOf_1
theorem dksX5_rowOf_0 : cX5_rowOf.data.toList.drop 0 = dktX5_rowOf_0 := by decide +kernel
theorem dksX5_rowOf_1 : cX5_rowOf.data.toList.drop 23 = dktX5_rowOf_1 := dk_seg dksX5_rowOf_0 23 rfl rfl
theorem dksX5_rowOf_2 : cX5_rowOf.data.toList.drop 47 = dktX5_rowOf_2 := dk_seg dksX5_rowOf_1 24 rfl rfl
theorem dX5_rowOf_0 : decode cX5_rowOf 0 = .ok (.aconst_null, 1) := dk_1 (dk_at dksX5_rowOf_0 0 rfl rfl)
theorem dX5_rowOf_1 : decode cX5_rowOf 1 = .ok (.astore_n 2, 1) := dk_77 (dk_at dksX5_rowOf_0 1 rfl rfl)
theorem dX5_rowOf_2 : decode cX5_rowOf 2 = .ok (.iconst 1, 1) := dk_4 (dk_at dksX5_rowOf_0 2 rfl rfl)
theorem dX5_rowOf_3 : decode cX5_rowOf 3 = .ok (.istore_n 3, 1) := dk_62 (dk_at dksX5_rowOf_0 3 rfl rfl)
theorem dX5_rowOf_4 : decode cX5_rowOf 4 = .ok (.iload_n 3, 1) := dk_29 (dk_at dksX5_rowOf_0 4 rfl rfl)
theorem dX5_rowOf_5 : decode cX5_rowOf 5 = .ok (.iconst 3, 1) := dk_6 (dk_at dksX5_rowOf_0 5 rfl rfl)
theorem dX5_rowOf_6 : decode cX5_rowOf 6 = .ok (.if_icmp .gt 40, 3) := dk_163 0 40 (dk_at dksX5_rowOf_0 6 rfl rfl)
theorem dX5_rowOf_9 : decode cX5_rowOf 9 = .ok (.iload_n 3, 1) := dk_29 (dk_at dksX5_rowOf_0 9 rfl rfl)
theorem dX5_rowOf_10 : decode cX5_rowOf 10 = .ok (.aload_n 1, 1) := dk_43 (dk_at dksX5_rowOf_0 10 rfl rfl)
theorem dX5_rowOf_11 : decode cX5_rowOf 11 = .ok (.invokevirtual 9, 3) := dk_182 0 9 (dk_at dksX5_rowOf_0 11 rfl rfl)
theorem dX5_rowOf_14 : decode cX5_rowOf 14 = .ok (.if_icmp .gt 32, 3) := dk_163 0 32 (dk_at dksX5_rowOf_0 14 rfl rfl)
theorem dX5_rowOf_17 : decode cX5_rowOf 17 = .ok (.aload_n 0, 1) := dk_42 (dk_at dksX5_rowOf_0 17 rfl rfl)
theorem dX5_rowOf_18 : decode cX5_rowOf 18 = .ok (.aload_n 1, 1) := dk_43 (dk_at dksX5_rowOf_0 18 rfl rfl)
theorem dX5_rowOf_19 : decode cX5_rowOf 19 = .ok (.iload_n 3, 1) := dk_29 (dk_at dksX5_rowOf_0 19 rfl rfl)
theorem dX5_rowOf_20 : decode cX5_rowOf 20 = .ok (.invokestatic 15, 3) := dk_184 0 15 (dk_at dksX5_rowOf_0 20 rfl rfl)
theorem dX5_rowOf_23 : decode cX5_rowOf 23 = .ok (.invokespecial 23, 3) := dk_183 0 23 (dk_at dksX5_rowOf_1 0 rfl rfl)
theorem dX5_rowOf_26 : decode cX5_rowOf 26 = .ok (.astore 4, 2) := dk_58 4 (dk_at dksX5_rowOf_1 3 rfl rfl)
theorem dX5_rowOf_28 : decode cX5_rowOf 28 = .ok (.aload 4, 2) := dk_25 4 (dk_at dksX5_rowOf_1 5 rfl rfl)
theorem dX5_rowOf_30 : decode cX5_rowOf 30 = .ok (.ifnonnull 7, 3) := dk_199 0 7 (dk_at dksX5_rowOf_1 7 rfl rfl)
theorem dX5_rowOf_33 : decode cX5_rowOf 33 = .ok (.aload_n 2, 1) := dk_44 (dk_at dksX5_rowOf_1 10 rfl rfl)
theorem dX5_rowOf_34 : decode cX5_rowOf 34 = .ok (.goto 5, 3) := dk_167 0 5 (dk_at dksX5_rowOf_1 11 rfl rfl)
theorem dX5_rowOf_37 : decode cX5_rowOf 37 = .ok (.aload 4, 2) := dk_25 4 (dk_at dksX5_rowOf_1 14 rfl rfl)
theorem dX5_rowOf_39 : decode cX5_rowOf 39 = .ok (.astore_n 2, 1) := dk_77 (dk_at dksX5_rowOf_1 16 rfl rfl)
theorem dX5_rowOf_40 : decode cX5_rowOf 40 = .ok (.iinc 3 1, 3) := dk_132 3 1 (dk_at dksX5_rowOf_1 17 rfl rfl)
theorem dX5_rowOf_43 : decode cX5_rowOf 43 = .ok (.goto (-39), 3) := dk_167 255 217 (dk_at dksX5_rowOf_1 20 rfl rfl)
theorem dX5_rowOf_46 : decode cX5_rowOf 46 = .ok (.aload_n 2, 1) := dk_44 (dk_at dksX5_rowOf_1 23 rfl rfl)
theorem dX5_rowOf_47 : decode cX5_rowOf 47 = .ok (.areturn, 1) := dk_176 (dk_at dksX5_rowOf_2 0 rfl rfl)
theorem q42 : (Jvm.Cond.initialized "Trellistag$Endings") ∈ lw_all := lw_g (lw_at lw_m1 7 rfl) rfl
theorem q138 : (Jvm.Cond.instantiable "Trellistag$Endings" (1 : Nat)) ∈ lw_all := lw_g (lw_at lw_m1 103 rfl) rfl
theorem q140 : (Jvm.Cond.instanceMethod ({ cls := "Trellistag$Endings", name := "<init>", desc := "()V" } : Jvm.MethodName)) ∈ lw_all := lw_g (lw_at lw_m1 105 rfl) rfl
theorem q141 : (Jvm.Cond.code ({ cls := "Trellistag$Endings", name := "<init>", desc := "()V" } : Jvm.MethodName) prog_5_method_1_code (1 : Nat) (Option.none : Option Jvm.ClassFile.FieldType)) ∈ lw_all := lw_g (lw_at lw_m1 106 rfl) rfl
theorem q142 : (Jvm.Cond.methodLinkNest "Trellistag$Endings" (3 : Nat) ({ cls := "Trellistag$Weighing", name := "<init>", desc := "()V" } : Jvm.MethodName) "Trellistag") ∈ lw_tbl := lw_at lw_m1 107 rfl
theorem q143 : (Jvm.Cond.laysFinal "Trellistag$Endings" "Trellistag$Counts" "rows" "Ljava/util/TreeMap;") ∈ lw_all := lw_g (lw_at lw_m1 108 rfl) rfl
theorem q144 : (Jvm.Cond.superclass "Trellistag$Endings" "Trellistag$Weighing") ∈ lw_all := lw_g (lw_at lw_m1 109 rfl) rfl
theorem q770 : (Jvm.Cond.selects "Trellistag$Endings" ({ cls := "java/lang/Object", name := "getClass", desc := "()Ljava/lang/Class;" } : Jvm.MethodName) ({ cls := "java/lang/Object", name := "getClass", desc := "()Ljava/lang/Class;" } : Jvm.MethodName)) ∈ lw_all := lw_g (lw_at lw_m4 15 rfl) rfl
theorem q1140 : (Jvm.Cond.instanceMethod ({ cls := "Trellistag$Endings", name := "note", desc := "(Ljava/lang/String;II)V" } : Jvm.MethodName)) ∈ lw_all := lw_g (lw_at lw_m5 145 rfl) rfl
theorem q1141 : (Jvm.Cond.selects "Trellistag$Endings" ({ cls := "Trellistag$Endings", name := "note", desc := "(Ljava/lang/String;II)V" } : Jvm.MethodName) ({ cls := "Trellistag$Endings", name := "note", desc := "(Ljava/lang/String;II)V" } : Jvm.MethodName)) ∈ lw_all := lw_g (lw_at lw_m5 146 rfl) rfl
theorem q1142 : (Jvm.Cond.code ({ cls := "Trellistag$Endings", name := "note", desc := "(Ljava/lang/String;II)V" } : Jvm.MethodName) prog_5_method_3_code (5 : Nat) (Option.none : Option Jvm.ClassFile.FieldType)) ∈ lw_all := lw_g (lw_at lw_m5 147 rfl) rfl
theorem q1143 : (Jvm.Cond.methodLink "Trellistag$Endings" (9 : Nat) ({ cls := "java/lang/String", name := "length", desc := "()I" } : Jvm.MethodName)) ∈ lw_all := lw_g (lw_at lw_m5 148 rfl) rfl
theorem q1144 : (Jvm.Cond.methodLinkNest "Trellistag$Endings" (15 : Nat) ({ cls := "Trellistag", name := "endingOf", desc := "(Ljava/lang/String;I)Ljava/lang/String;" } : Jvm.MethodName) "Trellistag") ∈ lw_tbl := lw_at lw_m5 149 rfl
theorem q1175 : (Jvm.Cond.methodLink "Trellistag$Endings" (19 : Nat) ({ cls := "Trellistag$Weighing", name := "note", desc := "(Ljava/lang/String;II)V" } : Jvm.MethodName)) ∈ lw_all := lw_g (lw_at lw_m5 180 rfl) rfl
theorem q1238 : (Jvm.Cond.selects "Trellistag$Endings" ({ cls := "Trellistag$Weighing", name := "times", desc := "()I" } : Jvm.MethodName) ({ cls := "Trellistag$Endings", name := "times", desc := "()I" } : Jvm.MethodName)) ∈ lw_all := lw_g (lw_at lw_m6 3 rfl) rfl
theorem q1239 : (Jvm.Cond.instanceMethod ({ cls := "Trellistag$Endings", name := "times", desc := "()I" } : Jvm.MethodName)) ∈ lw_all := lw_g (lw_at lw_m6 4 rfl) rfl
theorem q1240 : (Jvm.Cond.code ({ cls := "Trellistag$Endings", name := "times", desc := "()I" } : Jvm.MethodName) prog_5_method_2_code (1 : Nat) (Option.some Jvm.ClassFile.FieldType.int)) ∈ lw_all := lw_g (lw_at lw_m6 5 rfl) rfl
theorem q1246 : (Jvm.Cond.instanceMethod ({ cls := "Trellistag$Endings", name := "rowOf", desc := "(Ljava/lang/String;)[I" } : Jvm.MethodName)) ∈ lw_all := lw_g (lw_at lw_m6 11 rfl) rfl
theorem q1247 : (Jvm.Cond.selects "Trellistag$Endings" ({ cls := "Trellistag$Endings", name := "rowOf", desc := "(Ljava/lang/String;)[I" } : Jvm.MethodName) ({ cls := "Trellistag$Endings", name := "rowOf", desc := "(Ljava/lang/String;)[I" } : Jvm.MethodName)) ∈ lw_all := lw_g (lw_at lw_m6 12 rfl) rfl
theorem q1248 : (Jvm.Cond.code ({ cls := "Trellistag$Endings", name := "rowOf", desc := "(Ljava/lang/String;)[I" } : Jvm.MethodName) prog_5_method_4_code (5 : Nat) (Option.some (Jvm.ClassFile.FieldType.array Jvm.ClassFile.FieldType.int))) ∈ lw_all := lw_g (lw_at lw_m6 13 rfl) rfl
theorem q1249 : (Jvm.Cond.methodLink "Trellistag$Endings" (23 : Nat) ({ cls := "Trellistag$Weighing", name := "rowOf", desc := "(Ljava/lang/String;)[I" } : Jvm.MethodName)) ∈ lw_all := lw_g (lw_at lw_m6 14 rfl) rfl
theorem q1252 : (Jvm.Cond.sameMethod "Trellistag$Endings" "Trellistag$Weighing" "weight" "([II)I") ∈ lw_all := lw_g (lw_at lw_m6 17 rfl) rfl
theorem q1253 : (Jvm.Cond.selects "Trellistag$Endings" ({ cls := "Trellistag$Endings", name := "weight", desc := "([II)I" } : Jvm.MethodName) ({ cls := "Trellistag$Weighing", name := "weight", desc := "([II)I" } : Jvm.MethodName)) ∈ lw_all := lw_g (lw_at lw_m6 18 rfl) rfl
theorem q1787 : (Jvm.Cond.castable "Trellistag$Endings" "java/lang/Object") ∈ lw_tbl := lw_at lw_m8 72 rfl
theorem in_X5 : ∀ w ∈ wsX50, w ∈ lw_all := lw_in wsX50 [143] (by decide +kernel) (by decide +kernel)

/-! Trellistag$Tagged -/
set_option maxRecDepth 100000
def RX7 : String := "Trellistag$Tagged"
def TX7 : u_T := fun k => match k with
  | 0 => ("Trellistag$Tagged", "word", "Ljava/lang/String;", true)
  | _ => ("Trellistag$Tagged", "tag", "I", true)
def tyX7 : Nat → FieldType := fun k => match k with
  | 0 => .object "java/lang/String"
  | _ => .int
abbrev wsX70 : List Cond := u_ws RX7 TX7 2
theorem nmX7 : ∀ a, a < 2 → ∀ b, b < 2 → a ≠ b → (TX7 a).2.1 ≠ (TX7 b).2.1 := by decide +kernel
theorem tyX7_ok : ∀ k, k < 2 → parseFieldDescriptor (TX7 k).2.2.1 = some (tyX7 k) := by decide +kernel
abbrev cX7_init : ByteArray := prog_7_method_1_code
def yX7_init : MethodName := ⟨RX7, "<init>", "(Ljava/lang/String;I)V"⟩
def dkwX7_init_0 : List UInt8 := [42, 183, 0, 1, 42, 43, 181, 0, 7, 42, 28, 181, 0, 13, 177]
abbrev dktX7_init_0 : List UInt8 := dkwX7_init_0 ++ []
theorem dksX7_init_0 : cX7_init.data.toList.drop 0 = dktX7_init_0 := by decide +kernel
theorem dX7_init_0 : decode cX7_init 0 = .ok (.aload_n 0, 1) := dk_42 (dk_at dksX7_init_0 0 rfl rfl)
theorem dX7_init_1 : decode cX7_init 1 = .ok (.invokespecial 1, 3) := dk_183 0 1 (dk_at dksX7_init_0 1 rfl rfl)
theorem dX7_init_4 : decode cX7_init 4 = .ok (.aload_n 0, 1) := dk_42 (dk_at dksX7_init_0 4 rfl rfl)
theorem dX7_init_5 : decode cX7_init 5 = .ok (.aload_n 1, 1) := dk_43 (dk_at dksX7_init_0 5 rfl rfl)
theorem dX7_init_6 : decode cX7_init 6 = .ok (.putfield 7, 3) := dk_181 0 7 (dk_at dksX7_init_0 6 rfl rfl)
theorem dX7_init_9 : decode cX7_init 9 = .ok (.aload_n 0, 1) := dk_42 (dk_at dksX7_init_0 9 rfl rfl)
theorem dX7_init_10 : decode cX7_init 10 = .ok (.iload_n 2, 1) := dk_28 (dk_at dksX7_init_0 10 rfl rfl)
theorem dX7_init_11 : decode cX7_init 11 = .ok (.putfield 13, 3) := dk_181 0 13 (dk_at dksX7_init_0 11 rfl rfl)
theorem dX7_init_14 : decode cX7_init 14 = .ok (.return_, 1) := dk_177 (dk_at dksX7_init_0 14 rfl rfl)
abbrev cX7_word : ByteArray := prog_7_method_5_code
def yX7_word : MethodName := ⟨RX7, "word", "()Ljava/lang/String;"⟩
theorem dX7_word_0 : decode cX7_word 0 = .ok (.aload_n 0, 1) := by decide +kernel
theorem dX7_word_1 : decode cX7_word 1 = .ok (.getfield 7, 3) := by decide +kernel
theorem dX7_word_4 : decode cX7_word 4 = .ok (.areturn, 1) := by decide +kernel
abbrev cX7_tag : ByteArray := prog_7_method_6_code
def yX7_tag : MethodName := ⟨RX7, "tag", "()I"⟩
theorem dX7_tag_0 : decode cX7_tag 0 = .ok (.aload_n 0, 1) := by decide +kernel
theorem dX7_tag_1 : decode cX7_tag 1 = .ok (.getfield 13, 3) := by decide +kernel
theorem dX7_tag_4 : decode cX7_tag 4 = .ok (.ireturn, 1) := by decide +kernel
theorem q67 : (Jvm.Cond.initialized "Trellistag$Tagged") ∈ lw_all := lw_g (lw_at lw_m1 32 rfl) rfl
theorem q720 : (Jvm.Cond.instantiable "Trellistag$Tagged" (2 : Nat)) ∈ lw_all := lw_g (lw_at lw_m3 205 rfl) rfl
theorem q726 : (Jvm.Cond.instanceMethod ({ cls := "Trellistag$Tagged", name := "<init>", desc := "(Ljava/lang/String;I)V" } : Jvm.MethodName)) ∈ lw_all := lw_g (lw_at lw_m3 211 rfl) rfl
theorem q727 : (Jvm.Cond.code ({ cls := "Trellistag$Tagged", name := "<init>", desc := "(Ljava/lang/String;I)V" } : Jvm.MethodName) prog_7_method_1_code (3 : Nat) (Option.none : Option Jvm.ClassFile.FieldType)) ∈ lw_all := lw_g (lw_at lw_m3 212 rfl) rfl
theorem q728 : (Jvm.Cond.methodLink "Trellistag$Tagged" (1 : Nat) ({ cls := "java/lang/Record", name := "<init>", desc := "()V" } : Jvm.MethodName)) ∈ lw_all := lw_g (lw_at lw_m3 213 rfl) rfl
theorem q732 : (Jvm.Cond.fieldLink "Trellistag$Tagged" (7 : Nat) "Trellistag$Tagged" "word" "Ljava/lang/String;") ∈ lw_all := lw_g (lw_at lw_m3 217 rfl) rfl
theorem q733 : (Jvm.Cond.fieldLink "Trellistag$Tagged" (13 : Nat) "Trellistag$Tagged" "tag" "I") ∈ lw_all := lw_g (lw_at lw_m3 218 rfl) rfl
theorem q734 : (Jvm.Cond.laysFinal "Trellistag$Tagged" "Trellistag$Tagged" "word" "Ljava/lang/String;") ∈ lw_all := lw_g (lw_at lw_m3 219 rfl) rfl
theorem q735 : (Jvm.Cond.soleField "Trellistag$Tagged" "word") ∈ lw_all := lw_g (lw_at lw_m3 220 rfl) rfl
theorem q736 : (Jvm.Cond.laysFinal "Trellistag$Tagged" "Trellistag$Tagged" "tag" "I") ∈ lw_all := lw_g (lw_at lw_m3 221 rfl) rfl
theorem q737 : (Jvm.Cond.soleField "Trellistag$Tagged" "tag") ∈ lw_all := lw_g (lw_at lw_m3 222 rfl) rfl
theorem q738 : (Jvm.Cond.superclass "Trellistag$Tagged" "java/lang/Record") ∈ lw_all := lw_g (lw_at lw_m3 223 rfl) rfl
theorem q772 : (Jvm.Cond.selects "Trellistag$Tagged" ({ cls := "java/lang/Object", name := "getClass", desc := "()Ljava/lang/Class;" } : Jvm.MethodName) ({ cls := "java/lang/Object", name := "getClass", desc := "()Ljava/lang/Class;" } : Jvm.MethodName)) ∈ lw_all := lw_g (lw_at lw_m4 17 rfl) rfl
theorem q823 : (Jvm.Cond.instanceMethod ({ cls := "Trellistag$Tagged", name := "word", desc := "()Ljava/lang/String;" } : Jvm.MethodName)) ∈ lw_all := lw_g (lw_at lw_m4 68 rfl) rfl
theorem q824 : (Jvm.Cond.selects "Trellistag$Tagged" ({ cls := "Trellistag$Tagged", name := "word", desc := "()Ljava/lang/String;" } : Jvm.MethodName) ({ cls := "Trellistag$Tagged", name := "word", desc := "()Ljava/lang/String;" } : Jvm.MethodName)) ∈ lw_all := lw_g (lw_at lw_m4 69 rfl) rfl
theorem q825 : (Jvm.Cond.code ({ cls := "Trellistag$Tagged", name := "word", desc := "()Ljava/lang/String;" } : Jvm.MethodName) prog_7_method_5_code (1 : Nat) (Option.some (Jvm.ClassFile.FieldType.object "java/lang/String"))) ∈ lw_all := lw_g (lw_at lw_m4 70 rfl) rfl
theorem q827 : (Jvm.Cond.instanceMethod ({ cls := "Trellistag$Tagged", name := "tag", desc := "()I" } : Jvm.MethodName)) ∈ lw_all := lw_g (lw_at lw_m4 72 rfl) rfl
theorem q828 : (Jvm.Cond.selects "Trellistag$Tagged" ({ cls := "Trellistag$Tagged", name := "tag", desc := "()I" } : Jvm.MethodName) ({ cls := "Trellistag$Tagged", name := "tag", desc := "()I" } : Jvm.MethodName)) ∈ lw_all := lw_g (lw_at lw_m4 73 rfl) rfl
theorem q829 : (Jvm.Cond.code ({ cls := "Trellistag$Tagged", name := "tag", desc := "()I" } : Jvm.MethodName) prog_7_method_6_code (1 : Nat) (Option.some Jvm.ClassFile.FieldType.int)) ∈ lw_all := lw_g (lw_at lw_m4 74 rfl) rfl
theorem q1796 : (Jvm.Cond.castable "Trellistag$Tagged" "java/lang/Object") ∈ lw_tbl := lw_at lw_m8 81 rfl
theorem in_X7 : ∀ w ∈ wsX70, w ∈ lw_all := lw_in wsX70 [734, 736] (by decide +kernel) (by decide +kernel)

/-! Trellistag$Text -/
set_option maxRecDepth 100000
def RX8 : String := "Trellistag$Text"
def TX8 : u_T := fun k => match k with
  | 0 => ("Trellistag$Text", "words", "Ljava/util/List;", true)
  | _ => ("Trellistag$Text", "counts", "Z", false)
def tyX8 : Nat → FieldType := fun k => match k with
  | 0 => .object "java/util/List"
  | _ => .boolean
abbrev wsX80 : List Cond := u_ws RX8 TX8 2
theorem nmX8 : ∀ a, a < 2 → ∀ b, b < 2 → a ≠ b → (TX8 a).2.1 ≠ (TX8 b).2.1 := by decide +kernel
theorem tyX8_ok : ∀ k, k < 2 → parseFieldDescriptor (TX8 k).2.2.1 = some (tyX8 k) := by decide +kernel
abbrev cX8_init : ByteArray := prog_8_method_1_code
def yX8_init : MethodName := ⟨RX8, "<init>", "(Ljava/util/List;)V"⟩
def dkwX8_init_0 : List UInt8 := [42, 183, 0, 1, 42, 43, 181, 0, 7, 177]
abbrev dktX8_init_0 : List UInt8 := dkwX8_init_0 ++ []
theorem dksX8_init_0 : cX8_init.data.toList.drop 0 = dktX8_init_0 := by decide +kernel
theorem dX8_init_0 : decode cX8_init 0 = .ok (.aload_n 0, 1) := dk_42 (dk_at dksX8_init_0 0 rfl rfl)
theorem dX8_init_1 : decode cX8_init 1 = .ok (.invokespecial 1, 3) := dk_183 0 1 (dk_at dksX8_init_0 1 rfl rfl)
theorem dX8_init_4 : decode cX8_init 4 = .ok (.aload_n 0, 1) := dk_42 (dk_at dksX8_init_0 4 rfl rfl)
theorem dX8_init_5 : decode cX8_init 5 = .ok (.aload_n 1, 1) := dk_43 (dk_at dksX8_init_0 5 rfl rfl)
theorem dX8_init_6 : decode cX8_init 6 = .ok (.putfield 7, 3) := dk_181 0 7 (dk_at dksX8_init_0 6 rfl rfl)
theorem dX8_init_9 : decode cX8_init 9 = .ok (.return_, 1) := dk_177 (dk_at dksX8_init_0 9 rfl rfl)
theorem q68 : (Jvm.Cond.initialized "Trellistag$Text") ∈ lw_all := lw_g (lw_at lw_m1 33 rfl) rfl
theorem q773 : (Jvm.Cond.selects "Trellistag$Text" ({ cls := "java/lang/Object", name := "getClass", desc := "()Ljava/lang/Class;" } : Jvm.MethodName) ({ cls := "java/lang/Object", name := "getClass", desc := "()Ljava/lang/Class;" } : Jvm.MethodName)) ∈ lw_all := lw_g (lw_at lw_m4 18 rfl) rfl
theorem q805 : (Jvm.Cond.instantiable "Trellistag$Text" (2 : Nat)) ∈ lw_all := lw_g (lw_at lw_m4 50 rfl) rfl
theorem q807 : (Jvm.Cond.instanceMethod ({ cls := "Trellistag$Text", name := "<init>", desc := "(Ljava/util/List;)V" } : Jvm.MethodName)) ∈ lw_all := lw_g (lw_at lw_m4 52 rfl) rfl
theorem q808 : (Jvm.Cond.code ({ cls := "Trellistag$Text", name := "<init>", desc := "(Ljava/util/List;)V" } : Jvm.MethodName) prog_8_method_1_code (2 : Nat) (Option.none : Option Jvm.ClassFile.FieldType)) ∈ lw_all := lw_g (lw_at lw_m4 53 rfl) rfl
theorem q809 : (Jvm.Cond.methodLink "Trellistag$Text" (1 : Nat) ({ cls := "java/lang/Object", name := "<init>", desc := "()V" } : Jvm.MethodName)) ∈ lw_all := lw_g (lw_at lw_m4 54 rfl) rfl
theorem q810 : (Jvm.Cond.fieldLink "Trellistag$Text" (7 : Nat) "Trellistag$Text" "words" "Ljava/util/List;") ∈ lw_all := lw_g (lw_at lw_m4 55 rfl) rfl
theorem q813 : (Jvm.Cond.laysFinal "Trellistag$Text" "Trellistag$Text" "words" "Ljava/util/List;") ∈ lw_all := lw_g (lw_at lw_m4 58 rfl) rfl
theorem q814 : (Jvm.Cond.soleField "Trellistag$Text" "words") ∈ lw_all := lw_g (lw_at lw_m4 59 rfl) rfl
theorem q815 : (Jvm.Cond.lays "Trellistag$Text" "Trellistag$Text" "counts" "Z") ∈ lw_all := lw_g (lw_at lw_m4 60 rfl) rfl
theorem q816 : (Jvm.Cond.soleField "Trellistag$Text" "counts") ∈ lw_all := lw_g (lw_at lw_m4 61 rfl) rfl
theorem q817 : (Jvm.Cond.superclass "Trellistag$Text" "java/lang/Object") ∈ lw_all := lw_g (lw_at lw_m4 62 rfl) rfl
theorem q1797 : (Jvm.Cond.castable "Trellistag$Text" "java/lang/Object") ∈ lw_tbl := lw_at lw_m8 82 rfl
theorem in_X8 : ∀ w ∈ wsX80, w ∈ lw_all := lw_in wsX80 [813, 815] (by decide +kernel) (by decide +kernel)

/-! Trellistag$Trellis -/
set_option maxRecDepth 100000
def RX9 : String := "Trellistag$Trellis"
def TX9 : u_T := fun k => match k with
  | 0 => ("Trellistag$Trellis", "size", "I", true)
  | 1 => ("Trellistag$Trellis", "words", "[[I", true)
  | 2 => ("Trellistag$Trellis", "steps", "[[I", true)
  | _ => ("Trellistag$Trellis", "this$0", "LTrellistag;", true)
def tyX9 : Nat → FieldType := fun k => match k with
  | 0 => .int
  | 1 => .array (.array .int)
  | 2 => .array (.array .int)
  | _ => .object "Trellistag"
abbrev wsX90 : List Cond := u_ws RX9 TX9 4
theorem nmX9 : ∀ a, a < 4 → ∀ b, b < 4 → a ≠ b → (TX9 a).2.1 ≠ (TX9 b).2.1 := by decide +kernel
theorem tyX9_ok : ∀ k, k < 4 → parseFieldDescriptor (TX9 k).2.2.1 = some (tyX9 k) := by decide +kernel
abbrev cX9_init : ByteArray := prog_9_method_1_code
def yX9_init : MethodName := ⟨RX9, "<init>", "(LTrellistag;)V"⟩
def dkwX9_init_7 : List UInt8 := [167, 255, 234, 132, 2, 1, 167, 255, 221, 177]
abbrev dktX9_init_7 : List UInt8 := dkwX9_init_7 ++ []
def dkwX9_init_6 : List UInt8 := [62, 29, 8, 162, 0, 23, 42, 180, 0, 33, 28, 50, 29, 43, 28, 29, 182, 0, 50, 79, 132, 3, 1]
abbrev dktX9_init_6 : List UInt8 := dkwX9_init_6 ++ dktX9_init_7
def dkwX9_init_5 : List UInt8 := [182, 0, 46, 79, 132, 4, 1, 167, 255, 204, 132, 2, 1, 167, 255, 180, 3, 61, 28, 8, 162, 0, 36, 3]
abbrev dktX9_init_5 : List UInt8 := dkwX9_init_5 ++ dktX9_init_6
def dkwX9_init_4 : List UInt8 := [159, 0, 7, 3, 167, 0, 22, 43, 43, 180, 0, 15, 28, 185, 0, 40, 2, 0, 192, 0, 44, 21, 4]
abbrev dktX9_init_4 : List UInt8 := dkwX9_init_4 ++ dktX9_init_5
def dkwX9_init_3 : List UInt8 := [21, 4, 8, 162, 0, 52, 42, 180, 0, 30, 28, 50, 21, 4, 29, 2, 159, 0, 13, 29, 21, 4]
abbrev dktX9_init_3 : List UInt8 := dkwX9_init_3 ++ dktX9_init_4
def dkwX9_init_2 : List UInt8 := [181, 0, 33, 3, 61, 28, 42, 180, 0, 25, 162, 0, 74, 43, 180, 0, 36, 28, 46, 62, 3, 54, 4]
abbrev dktX9_init_2 : List UInt8 := dkwX9_init_2 ++ dktX9_init_3
def dkwX9_init_1 : List UInt8 := [181, 0, 25, 42, 42, 180, 0, 25, 8, 197, 0, 28, 2, 181, 0, 30, 42, 8, 8, 197, 0, 28, 2]
abbrev dktX9_init_1 : List UInt8 := dkwX9_init_1 ++ dktX9_init_2
def dkwX9_init_0 : List UInt8 := [42, 43, 181, 0, 3, 42, 183, 0, 9, 42, 42, 180, 0, 3, 180, 0, 15, 185, 0, 19, 1, 0]
abbrev dktX9_init_0 : List UInt8 := dkwX9_init_0 ++ dktX9_init_1
theorem dksX9_init_0 : cX9_init.data.toList.drop 0 = dktX9_init_0 := by decide +kernel
theorem dksX9_init_1 : cX9_init.data.toList.drop 22 = dktX9_init_1 := dk_seg dksX9_init_0 22 rfl rfl
theorem dksX9_init_2 : cX9_init.data.toList.drop 45 = dktX9_init_2 := dk_seg dksX9_init_1 23 rfl rfl
theorem dksX9_init_3 : cX9_init.data.toList.drop 68 = dktX9_init_3 := dk_seg dksX9_init_2 23 rfl rfl
theorem dksX9_init_4 : cX9_init.data.toList.drop 90 = dktX9_init_4 := dk_seg dksX9_init_3 22 rfl rfl
theorem dksX9_init_5 : cX9_init.data.toList.drop 113 = dktX9_init_5 := dk_seg dksX9_init_4 23 rfl rfl
theorem dksX9_init_6 : cX9_init.data.toList.drop 137 = dktX9_init_6 := dk_seg dksX9_init_5 24 rfl rfl
theorem dksX9_init_7 : cX9_init.data.toList.drop 160 = dktX9_init_7 := dk_seg dksX9_init_6 23 rfl rfl
theorem dX9_init_0 : decode cX9_init 0 = .ok (.aload_n 0, 1) := dk_42 (dk_at dksX9_init_0 0 rfl rfl)
theorem dX9_init_1 : decode cX9_init 1 = .ok (.aload_n 1, 1) := dk_43 (dk_at dksX9_init_0 1 rfl rfl)
theorem dX9_init_2 : decode cX9_init 2 = .ok (.putfield 3, 3) := dk_181 0 3 (dk_at dksX9_init_0 2 rfl rfl)
theorem dX9_init_5 : decode cX9_init 5 = .ok (.aload_n 0, 1) := dk_42 (dk_at dksX9_init_0 5 rfl rfl)
theorem dX9_init_6 : decode cX9_init 6 = .ok (.invokespecial 9, 3) := dk_183 0 9 (dk_at dksX9_init_0 6 rfl rfl)
theorem dX9_init_9 : decode cX9_init 9 = .ok (.aload_n 0, 1) := dk_42 (dk_at dksX9_init_0 9 rfl rfl)
theorem dX9_init_10 : decode cX9_init 10 = .ok (.aload_n 0, 1) := dk_42 (dk_at dksX9_init_0 10 rfl rfl)
theorem dX9_init_11 : decode cX9_init 11 = .ok (.getfield 3, 3) := dk_180 0 3 (dk_at dksX9_init_0 11 rfl rfl)
theorem dX9_init_14 : decode cX9_init 14 = .ok (.getfield 15, 3) := dk_180 0 15 (dk_at dksX9_init_0 14 rfl rfl)
theorem dX9_init_17 : decode cX9_init 17 = .ok (.invokeinterface 19 1, 5) := by decide +kernel
theorem dX9_init_22 : decode cX9_init 22 = .ok (.putfield 25, 3) := dk_181 0 25 (dk_at dksX9_init_1 0 rfl rfl)
theorem dX9_init_25 : decode cX9_init 25 = .ok (.aload_n 0, 1) := dk_42 (dk_at dksX9_init_1 3 rfl rfl)
theorem dX9_init_26 : decode cX9_init 26 = .ok (.aload_n 0, 1) := dk_42 (dk_at dksX9_init_1 4 rfl rfl)
theorem dX9_init_27 : decode cX9_init 27 = .ok (.getfield 25, 3) := dk_180 0 25 (dk_at dksX9_init_1 5 rfl rfl)
theorem dX9_init_30 : decode cX9_init 30 = .ok (.iconst 5, 1) := dk_8 (dk_at dksX9_init_1 8 rfl rfl)
theorem dX9_init_31 : decode cX9_init 31 = .ok (.multianewarray 28 2, 4) := by decide +kernel
theorem dX9_init_35 : decode cX9_init 35 = .ok (.putfield 30, 3) := dk_181 0 30 (dk_at dksX9_init_1 13 rfl rfl)
theorem dX9_init_38 : decode cX9_init 38 = .ok (.aload_n 0, 1) := dk_42 (dk_at dksX9_init_1 16 rfl rfl)
theorem dX9_init_39 : decode cX9_init 39 = .ok (.iconst 5, 1) := dk_8 (dk_at dksX9_init_1 17 rfl rfl)
theorem dX9_init_40 : decode cX9_init 40 = .ok (.iconst 5, 1) := dk_8 (dk_at dksX9_init_1 18 rfl rfl)
theorem dX9_init_41 : decode cX9_init 41 = .ok (.multianewarray 28 2, 4) := by decide +kernel
theorem dX9_init_45 : decode cX9_init 45 = .ok (.putfield 33, 3) := dk_181 0 33 (dk_at dksX9_init_2 0 rfl rfl)
theorem dX9_init_48 : decode cX9_init 48 = .ok (.iconst 0, 1) := dk_3 (dk_at dksX9_init_2 3 rfl rfl)
theorem dX9_init_49 : decode cX9_init 49 = .ok (.istore_n 2, 1) := dk_61 (dk_at dksX9_init_2 4 rfl rfl)
theorem dX9_init_50 : decode cX9_init 50 = .ok (.iload_n 2, 1) := dk_28 (dk_at dksX9_init_2 5 rfl rfl)
theorem dX9_init_51 : decode cX9_init 51 = .ok (.aload_n 0, 1) := dk_42 (dk_at dksX9_init_2 6 rfl rfl)
theorem dX9_init_52 : decode cX9_init 52 = .ok (.getfield 25, 3) := dk_180 0 25 (dk_at dksX9_init_2 7 rfl rfl)
theorem dX9_init_55 : decode cX9_init 55 = .ok (.if_icmp .ge 74, 3) := dk_162 0 74 (dk_at dksX9_init_2 10 rfl rfl)
theorem dX9_init_58 : decode cX9_init 58 = .ok (.aload_n 1, 1) := dk_43 (dk_at dksX9_init_2 13 rfl rfl)
theorem dX9_init_59 : decode cX9_init 59 = .ok (.getfield 36, 3) := dk_180 0 36 (dk_at dksX9_init_2 14 rfl rfl)
theorem dX9_init_62 : decode cX9_init 62 = .ok (.iload_n 2, 1) := dk_28 (dk_at dksX9_init_2 17 rfl rfl)
theorem dX9_init_63 : decode cX9_init 63 = .ok (.iaload, 1) := dk_46 (dk_at dksX9_init_2 18 rfl rfl)
theorem dX9_init_64 : decode cX9_init 64 = .ok (.istore_n 3, 1) := dk_62 (dk_at dksX9_init_2 19 rfl rfl)
theorem dX9_init_65 : decode cX9_init 65 = .ok (.iconst 0, 1) := dk_3 (dk_at dksX9_init_2 20 rfl rfl)
theorem dX9_init_66 : decode cX9_init 66 = .ok (.istore 4, 2) := dk_54 4 (dk_at dksX9_init_2 21 rfl rfl)
theorem dX9_init_68 : decode cX9_init 68 = .ok (.iload 4, 2) := dk_21 4 (dk_at dksX9_init_3 0 rfl rfl)
theorem dX9_init_70 : decode cX9_init 70 = .ok (.iconst 5, 1) := dk_8 (dk_at dksX9_init_3 2 rfl rfl)
theorem dX9_init_71 : decode cX9_init 71 = .ok (.if_icmp .ge 52, 3) := dk_162 0 52 (dk_at dksX9_init_3 3 rfl rfl)
theorem dX9_init_74 : decode cX9_init 74 = .ok (.aload_n 0, 1) := dk_42 (dk_at dksX9_init_3 6 rfl rfl)
theorem dX9_init_75 : decode cX9_init 75 = .ok (.getfield 30, 3) := dk_180 0 30 (dk_at dksX9_init_3 7 rfl rfl)
theorem dX9_init_78 : decode cX9_init 78 = .ok (.iload_n 2, 1) := dk_28 (dk_at dksX9_init_3 10 rfl rfl)
theorem dX9_init_79 : decode cX9_init 79 = .ok (.aaload, 1) := dk_50 (dk_at dksX9_init_3 11 rfl rfl)
theorem dX9_init_80 : decode cX9_init 80 = .ok (.iload 4, 2) := dk_21 4 (dk_at dksX9_init_3 12 rfl rfl)
theorem dX9_init_82 : decode cX9_init 82 = .ok (.iload_n 3, 1) := dk_29 (dk_at dksX9_init_3 14 rfl rfl)
theorem dX9_init_83 : decode cX9_init 83 = .ok (.iconst (-1), 1) := dk_2 (dk_at dksX9_init_3 15 rfl rfl)
theorem dX9_init_84 : decode cX9_init 84 = .ok (.if_icmp .eq 13, 3) := dk_159 0 13 (dk_at dksX9_init_3 16 rfl rfl)
theorem dX9_init_87 : decode cX9_init 87 = .ok (.iload_n 3, 1) := dk_29 (dk_at dksX9_init_3 19 rfl rfl)
theorem dX9_init_88 : decode cX9_init 88 = .ok (.iload 4, 2) := dk_21 4 (dk_at dksX9_init_3 20 rfl rfl)
theorem dX9_init_90 : decode cX9_init 90 = .ok (.if_icmp .eq 7, 3) := dk_159 0 7 (dk_at dksX9_init_4 0 rfl rfl)
theorem dX9_init_93 : decode cX9_init 93 = .ok (.iconst 0, 1) := dk_3 (dk_at dksX9_init_4 3 rfl rfl)
theorem dX9_init_94 : decode cX9_init 94 = .ok (.goto 22, 3) := dk_167 0 22 (dk_at dksX9_init_4 4 rfl rfl)
theorem dX9_init_97 : decode cX9_init 97 = .ok (.aload_n 1, 1) := dk_43 (dk_at dksX9_init_4 7 rfl rfl)
theorem dX9_init_98 : decode cX9_init 98 = .ok (.aload_n 1, 1) := dk_43 (dk_at dksX9_init_4 8 rfl rfl)
theorem dX9_init_99 : decode cX9_init 99 = .ok (.getfield 15, 3) := dk_180 0 15 (dk_at dksX9_init_4 9 rfl rfl)
theorem dX9_init_102 : decode cX9_init 102 = .ok (.iload_n 2, 1) := dk_28 (dk_at dksX9_init_4 12 rfl rfl)
theorem dX9_init_103 : decode cX9_init 103 = .ok (.invokeinterface 40 2, 5) := by decide +kernel
theorem dX9_init_108 : decode cX9_init 108 = .ok (.checkcast 44, 3) := dk_192 0 44 (dk_at dksX9_init_4 18 rfl rfl)
theorem dX9_init_111 : decode cX9_init 111 = .ok (.iload 4, 2) := dk_21 4 (dk_at dksX9_init_4 21 rfl rfl)
theorem dX9_init_113 : decode cX9_init 113 = .ok (.invokevirtual 46, 3) := dk_182 0 46 (dk_at dksX9_init_5 0 rfl rfl)
theorem dX9_init_116 : decode cX9_init 116 = .ok (.iastore, 1) := dk_79 (dk_at dksX9_init_5 3 rfl rfl)
theorem dX9_init_117 : decode cX9_init 117 = .ok (.iinc 4 1, 3) := dk_132 4 1 (dk_at dksX9_init_5 4 rfl rfl)
theorem dX9_init_120 : decode cX9_init 120 = .ok (.goto (-52), 3) := dk_167 255 204 (dk_at dksX9_init_5 7 rfl rfl)
theorem dX9_init_123 : decode cX9_init 123 = .ok (.iinc 2 1, 3) := dk_132 2 1 (dk_at dksX9_init_5 10 rfl rfl)
theorem dX9_init_126 : decode cX9_init 126 = .ok (.goto (-76), 3) := dk_167 255 180 (dk_at dksX9_init_5 13 rfl rfl)
theorem dX9_init_129 : decode cX9_init 129 = .ok (.iconst 0, 1) := dk_3 (dk_at dksX9_init_5 16 rfl rfl)
theorem dX9_init_130 : decode cX9_init 130 = .ok (.istore_n 2, 1) := dk_61 (dk_at dksX9_init_5 17 rfl rfl)
theorem dX9_init_131 : decode cX9_init 131 = .ok (.iload_n 2, 1) := dk_28 (dk_at dksX9_init_5 18 rfl rfl)
theorem dX9_init_132 : decode cX9_init 132 = .ok (.iconst 5, 1) := dk_8 (dk_at dksX9_init_5 19 rfl rfl)
theorem dX9_init_133 : decode cX9_init 133 = .ok (.if_icmp .ge 36, 3) := dk_162 0 36 (dk_at dksX9_init_5 20 rfl rfl)
theorem dX9_init_136 : decode cX9_init 136 = .ok (.iconst 0, 1) := dk_3 (dk_at dksX9_init_5 23 rfl rfl)
theorem dX9_init_137 : decode cX9_init 137 = .ok (.istore_n 3, 1) := dk_62 (dk_at dksX9_init_6 0 rfl rfl)
theorem dX9_init_138 : decode cX9_init 138 = .ok (.iload_n 3, 1) := dk_29 (dk_at dksX9_init_6 1 rfl rfl)
theorem dX9_init_139 : decode cX9_init 139 = .ok (.iconst 5, 1) := dk_8 (dk_at dksX9_init_6 2 rfl rfl)
theorem dX9_init_140 : decode cX9_init 140 = .ok (.if_icmp .ge 23, 3) := dk_162 0 23 (dk_at dksX9_init_6 3 rfl rfl)
theorem dX9_init_143 : decode cX9_init 143 = .ok (.aload_n 0, 1) := dk_42 (dk_at dksX9_init_6 6 rfl rfl)
theorem dX9_init_144 : decode cX9_init 144 = .ok (.getfield 33, 3) := dk_180 0 33 (dk_at dksX9_init_6 7 rfl rfl)
theorem dX9_init_147 : decode cX9_init 147 = .ok (.iload_n 2, 1) := dk_28 (dk_at dksX9_init_6 10 rfl rfl)
theorem dX9_init_148 : decode cX9_init 148 = .ok (.aaload, 1) := dk_50 (dk_at dksX9_init_6 11 rfl rfl)
theorem dX9_init_149 : decode cX9_init 149 = .ok (.iload_n 3, 1) := dk_29 (dk_at dksX9_init_6 12 rfl rfl)
theorem dX9_init_150 : decode cX9_init 150 = .ok (.aload_n 1, 1) := dk_43 (dk_at dksX9_init_6 13 rfl rfl)
theorem dX9_init_151 : decode cX9_init 151 = .ok (.iload_n 2, 1) := dk_28 (dk_at dksX9_init_6 14 rfl rfl)
theorem dX9_init_152 : decode cX9_init 152 = .ok (.iload_n 3, 1) := dk_29 (dk_at dksX9_init_6 15 rfl rfl)
theorem dX9_init_153 : decode cX9_init 153 = .ok (.invokevirtual 50, 3) := dk_182 0 50 (dk_at dksX9_init_6 16 rfl rfl)
theorem dX9_init_156 : decode cX9_init 156 = .ok (.iastore, 1) := dk_79 (dk_at dksX9_init_6 19 rfl rfl)
theorem dX9_init_157 : decode cX9_init 157 = .ok (.iinc 3 1, 3) := dk_132 3 1 (dk_at dksX9_init_6 20 rfl rfl)
theorem dX9_init_160 : decode cX9_init 160 = .ok (.goto (-22), 3) := dk_167 255 234 (dk_at dksX9_init_7 0 rfl rfl)
theorem dX9_init_163 : decode cX9_init 163 = .ok (.iinc 2 1, 3) := dk_132 2 1 (dk_at dksX9_init_7 3 rfl rfl)
theorem dX9_init_166 : decode cX9_init 166 = .ok (.goto (-35), 3) := dk_167 255 221 (dk_at dksX9_init_7 6 rfl rfl)
theorem dX9_init_169 : decode cX9_init 169 = .ok (.return_, 1) := dk_177 (dk_at dksX9_init_7 9 rfl rfl)
abbrev cX9_ranked : ByteArray := prog_9_method_4_code
def yX9_ranked : MethodName := ⟨RX9, "ranked", "(I)Ljava/util/List;"⟩
def dkwX9_ranked_4 : List UInt8 := [87, 167, 0, 11, 42, 45, 25, 5, 44, 182, 0, 102, 167, 255, 195, 25, 4, 176]
abbrev dktX9_ranked_4 : List UInt8 := dkwX9_ranked_4 ++ []
def dkwX9_ranked_3 : List UInt8 := [58, 5, 25, 5, 180, 0, 98, 190, 42, 180, 0, 25, 160, 0, 16, 25, 4, 25, 5, 185, 0, 101, 2, 0]
abbrev dktX9_ranked_3 : List UInt8 := dkwX9_ranked_3 ++ dktX9_ranked_4
def dkwX9_ranked_2 : List UInt8 := [182, 0, 90, 154, 0, 60, 25, 4, 185, 0, 19, 1, 0, 27, 162, 0, 49, 45, 182, 0, 94, 192, 0, 81]
abbrev dktX9_ranked_2 : List UInt8 := dkwX9_ranked_2 ++ dktX9_ranked_3
def dkwX9_ranked_1 : List UInt8 := [89, 183, 0, 80, 58, 4, 45, 187, 0, 81, 89, 3, 188, 10, 9, 183, 0, 83, 182, 0, 86, 87, 45]
abbrev dktX9_ranked_1 : List UInt8 := dkwX9_ranked_1 ++ dktX9_ranked_2
def dkwX9_ranked_0 : List UInt8 := [42, 3, 182, 0, 66, 77, 187, 0, 70, 89, 187, 0, 72, 89, 183, 0, 74, 183, 0, 75, 78, 187, 0, 78]
abbrev dktX9_ranked_0 : List UInt8 := dkwX9_ranked_0 ++ dktX9_ranked_1
theorem dksX9_ranked_0 : cX9_ranked.data.toList.drop 0 = dktX9_ranked_0 := by decide +kernel
theorem dksX9_ranked_1 : cX9_ranked.data.toList.drop 24 = dktX9_ranked_1 := dk_seg dksX9_ranked_0 24 rfl rfl
theorem dksX9_ranked_2 : cX9_ranked.data.toList.drop 47 = dktX9_ranked_2 := dk_seg dksX9_ranked_1 23 rfl rfl
theorem dksX9_ranked_3 : cX9_ranked.data.toList.drop 71 = dktX9_ranked_3 := dk_seg dksX9_ranked_2 24 rfl rfl
theorem dksX9_ranked_4 : cX9_ranked.data.toList.drop 95 = dktX9_ranked_4 := dk_seg dksX9_ranked_3 24 rfl rfl
theorem dX9_ranked_0 : decode cX9_ranked 0 = .ok (.aload_n 0, 1) := dk_42 (dk_at dksX9_ranked_0 0 rfl rfl)
theorem dX9_ranked_1 : decode cX9_ranked 1 = .ok (.iconst 0, 1) := dk_3 (dk_at dksX9_ranked_0 1 rfl rfl)
theorem dX9_ranked_2 : decode cX9_ranked 2 = .ok (.invokevirtual 66, 3) := dk_182 0 66 (dk_at dksX9_ranked_0 2 rfl rfl)
theorem dX9_ranked_5 : decode cX9_ranked 5 = .ok (.astore_n 2, 1) := dk_77 (dk_at dksX9_ranked_0 5 rfl rfl)
theorem dX9_ranked_6 : decode cX9_ranked 6 = .ok (.new 70, 3) := dk_187 0 70 (dk_at dksX9_ranked_0 6 rfl rfl)
theorem dX9_ranked_9 : decode cX9_ranked 9 = .ok (.dup, 1) := dk_89 (dk_at dksX9_ranked_0 9 rfl rfl)
theorem dX9_ranked_10 : decode cX9_ranked 10 = .ok (.new 72, 3) := dk_187 0 72 (dk_at dksX9_ranked_0 10 rfl rfl)
theorem dX9_ranked_13 : decode cX9_ranked 13 = .ok (.dup, 1) := dk_89 (dk_at dksX9_ranked_0 13 rfl rfl)
theorem dX9_ranked_14 : decode cX9_ranked 14 = .ok (.invokespecial 74, 3) := dk_183 0 74 (dk_at dksX9_ranked_0 14 rfl rfl)
theorem dX9_ranked_17 : decode cX9_ranked 17 = .ok (.invokespecial 75, 3) := dk_183 0 75 (dk_at dksX9_ranked_0 17 rfl rfl)
theorem dX9_ranked_20 : decode cX9_ranked 20 = .ok (.astore_n 3, 1) := dk_78 (dk_at dksX9_ranked_0 20 rfl rfl)
theorem dX9_ranked_21 : decode cX9_ranked 21 = .ok (.new 78, 3) := dk_187 0 78 (dk_at dksX9_ranked_0 21 rfl rfl)
theorem dX9_ranked_24 : decode cX9_ranked 24 = .ok (.dup, 1) := dk_89 (dk_at dksX9_ranked_1 0 rfl rfl)
theorem dX9_ranked_25 : decode cX9_ranked 25 = .ok (.invokespecial 80, 3) := dk_183 0 80 (dk_at dksX9_ranked_1 1 rfl rfl)
theorem dX9_ranked_28 : decode cX9_ranked 28 = .ok (.astore 4, 2) := dk_58 4 (dk_at dksX9_ranked_1 4 rfl rfl)
theorem dX9_ranked_30 : decode cX9_ranked 30 = .ok (.aload_n 3, 1) := dk_45 (dk_at dksX9_ranked_1 6 rfl rfl)
theorem dX9_ranked_31 : decode cX9_ranked 31 = .ok (.new 81, 3) := dk_187 0 81 (dk_at dksX9_ranked_1 7 rfl rfl)
theorem dX9_ranked_34 : decode cX9_ranked 34 = .ok (.dup, 1) := dk_89 (dk_at dksX9_ranked_1 10 rfl rfl)
theorem dX9_ranked_35 : decode cX9_ranked 35 = .ok (.iconst 0, 1) := dk_3 (dk_at dksX9_ranked_1 11 rfl rfl)
theorem dX9_ranked_36 : decode cX9_ranked 36 = .ok (.newarray .int, 2) := dk_188_10 (dk_at dksX9_ranked_1 12 rfl rfl)
theorem dX9_ranked_38 : decode cX9_ranked 38 = .ok (.lconst 0, 1) := dk_9 (dk_at dksX9_ranked_1 14 rfl rfl)
theorem dX9_ranked_39 : decode cX9_ranked 39 = .ok (.invokespecial 83, 3) := dk_183 0 83 (dk_at dksX9_ranked_1 15 rfl rfl)
theorem dX9_ranked_42 : decode cX9_ranked 42 = .ok (.invokevirtual 86, 3) := dk_182 0 86 (dk_at dksX9_ranked_1 18 rfl rfl)
theorem dX9_ranked_45 : decode cX9_ranked 45 = .ok (.pop, 1) := dk_87 (dk_at dksX9_ranked_1 21 rfl rfl)
theorem dX9_ranked_46 : decode cX9_ranked 46 = .ok (.aload_n 3, 1) := dk_45 (dk_at dksX9_ranked_1 22 rfl rfl)
theorem dX9_ranked_47 : decode cX9_ranked 47 = .ok (.invokevirtual 90, 3) := dk_182 0 90 (dk_at dksX9_ranked_2 0 rfl rfl)
theorem dX9_ranked_50 : decode cX9_ranked 50 = .ok (.ifCond .ne 60, 3) := dk_154 0 60 (dk_at dksX9_ranked_2 3 rfl rfl)
theorem dX9_ranked_53 : decode cX9_ranked 53 = .ok (.aload 4, 2) := dk_25 4 (dk_at dksX9_ranked_2 6 rfl rfl)
theorem dX9_ranked_55 : decode cX9_ranked 55 = .ok (.invokeinterface 19 1, 5) := by decide +kernel
theorem dX9_ranked_60 : decode cX9_ranked 60 = .ok (.iload_n 1, 1) := dk_27 (dk_at dksX9_ranked_2 13 rfl rfl)
theorem dX9_ranked_61 : decode cX9_ranked 61 = .ok (.if_icmp .ge 49, 3) := dk_162 0 49 (dk_at dksX9_ranked_2 14 rfl rfl)
theorem dX9_ranked_64 : decode cX9_ranked 64 = .ok (.aload_n 3, 1) := dk_45 (dk_at dksX9_ranked_2 17 rfl rfl)
theorem dX9_ranked_65 : decode cX9_ranked 65 = .ok (.invokevirtual 94, 3) := dk_182 0 94 (dk_at dksX9_ranked_2 18 rfl rfl)
theorem dX9_ranked_68 : decode cX9_ranked 68 = .ok (.checkcast 81, 3) := dk_192 0 81 (dk_at dksX9_ranked_2 21 rfl rfl)
theorem dX9_ranked_71 : decode cX9_ranked 71 = .ok (.astore 5, 2) := dk_58 5 (dk_at dksX9_ranked_3 0 rfl rfl)
theorem dX9_ranked_73 : decode cX9_ranked 73 = .ok (.aload 5, 2) := dk_25 5 (dk_at dksX9_ranked_3 2 rfl rfl)
theorem dX9_ranked_75 : decode cX9_ranked 75 = .ok (.getfield 98, 3) := dk_180 0 98 (dk_at dksX9_ranked_3 4 rfl rfl)
theorem dX9_ranked_78 : decode cX9_ranked 78 = .ok (.arraylength, 1) := dk_190 (dk_at dksX9_ranked_3 7 rfl rfl)
theorem dX9_ranked_79 : decode cX9_ranked 79 = .ok (.aload_n 0, 1) := dk_42 (dk_at dksX9_ranked_3 8 rfl rfl)
theorem dX9_ranked_80 : decode cX9_ranked 80 = .ok (.getfield 25, 3) := dk_180 0 25 (dk_at dksX9_ranked_3 9 rfl rfl)
theorem dX9_ranked_83 : decode cX9_ranked 83 = .ok (.if_icmp .ne 16, 3) := dk_160 0 16 (dk_at dksX9_ranked_3 12 rfl rfl)
theorem dX9_ranked_86 : decode cX9_ranked 86 = .ok (.aload 4, 2) := dk_25 4 (dk_at dksX9_ranked_3 15 rfl rfl)
theorem dX9_ranked_88 : decode cX9_ranked 88 = .ok (.aload 5, 2) := dk_25 5 (dk_at dksX9_ranked_3 17 rfl rfl)
theorem dX9_ranked_90 : decode cX9_ranked 90 = .ok (.invokeinterface 101 2, 5) := by decide +kernel
theorem dX9_ranked_95 : decode cX9_ranked 95 = .ok (.pop, 1) := dk_87 (dk_at dksX9_ranked_4 0 rfl rfl)
theorem dX9_ranked_96 : decode cX9_ranked 96 = .ok (.goto 11, 3) := dk_167 0 11 (dk_at dksX9_ranked_4 1 rfl rfl)
theorem dX9_ranked_99 : decode cX9_ranked 99 = .ok (.aload_n 0, 1) := dk_42 (dk_at dksX9_ranked_4 4 rfl rfl)
theorem dX9_ranked_100 : decode cX9_ranked 100 = .ok (.aload_n 3, 1) := dk_45 (dk_at dksX9_ranked_4 5 rfl rfl)
theorem dX9_ranked_101 : decode cX9_ranked 101 = .ok (.aload 5, 2) := dk_25 5 (dk_at dksX9_ranked_4 6 rfl rfl)
theorem dX9_ranked_103 : decode cX9_ranked 103 = .ok (.aload_n 2, 1) := dk_44 (dk_at dksX9_ranked_4 8 rfl rfl)
theorem dX9_ranked_104 : decode cX9_ranked 104 = .ok (.invokevirtual 102, 3) := dk_182 0 102 (dk_at dksX9_ranked_4 9 rfl rfl)
theorem dX9_ranked_107 : decode cX9_ranked 107 = .ok (.goto (-61), 3) := dk_167 255 195 (dk_at dksX9_ranked_4 12 rfl rfl)
theorem dX9_ranked_110 : decode cX9_ranked 110 = .ok (.aload 4, 2) := dk_25 4 (dk_at dksX9_ranked_4 15 rfl rfl)
theorem dX9_ranked_112 : decode cX9_ranked 112 = .ok (.areturn, 1) := dk_176 (dk_at dksX9_ranked_4 17 rfl rfl)
abbrev cX9_behind : ByteArray := prog_9_method_3_code
def yX9_behind : MethodName := ⟨RX9, "behind", "(Z)[[J"⟩
def dkwX9_behind_5 : List UInt8 := [22, 5, 80, 132, 4, 1, 167, 255, 154, 132, 3, 255, 167, 255, 141, 44, 176]
abbrev dktX9_behind_5 : List UInt8 := dkwX9_behind_5 ++ []
def dkwX9_behind_4 : List UInt8 := [97, 167, 0, 10, 22, 5, 22, 8, 184, 0, 60, 55, 5, 132, 7, 1, 167, 255, 194, 44, 29, 50, 21, 4]
abbrev dktX9_behind_4 : List UInt8 := dkwX9_behind_4 ++ dktX9_behind_5
def dkwX9_behind_3 : List UInt8 := [21, 7, 182, 0, 56, 44, 29, 4, 96, 50, 21, 7, 47, 105, 55, 8, 27, 153, 0, 11, 22, 5, 22, 8]
abbrev dktX9_behind_3 : List UInt8 := dkwX9_behind_3 ++ dktX9_behind_4
def dkwX9_behind_2 : List UInt8 := [54, 7, 21, 7, 8, 162, 0, 62, 29, 42, 180, 0, 25, 4, 100, 162, 0, 52, 42, 29, 4, 96, 21, 4]
abbrev dktX9_behind_2 : List UInt8 := dkwX9_behind_2 ++ dktX9_behind_3
def dkwX9_behind_1 : List UInt8 := [21, 4, 8, 162, 0, 102, 29, 42, 180, 0, 25, 4, 100, 160, 0, 7, 10, 167, 0, 4, 9, 55, 5, 3]
abbrev dktX9_behind_1 : List UInt8 := dkwX9_behind_1 ++ dktX9_behind_2
def dkwX9_behind_0 : List UInt8 := [42, 180, 0, 25, 8, 197, 0, 54, 2, 77, 42, 180, 0, 25, 4, 100, 62, 29, 155, 0, 117, 3, 54, 4]
abbrev dktX9_behind_0 : List UInt8 := dkwX9_behind_0 ++ dktX9_behind_1
theorem dksX9_behind_0 : cX9_behind.data.toList.drop 0 = dktX9_behind_0 := by decide +kernel
theorem dksX9_behind_1 : cX9_behind.data.toList.drop 24 = dktX9_behind_1 := dk_seg dksX9_behind_0 24 rfl rfl
theorem dksX9_behind_2 : cX9_behind.data.toList.drop 48 = dktX9_behind_2 := dk_seg dksX9_behind_1 24 rfl rfl
theorem dksX9_behind_3 : cX9_behind.data.toList.drop 72 = dktX9_behind_3 := dk_seg dksX9_behind_2 24 rfl rfl
theorem dksX9_behind_4 : cX9_behind.data.toList.drop 96 = dktX9_behind_4 := dk_seg dksX9_behind_3 24 rfl rfl
theorem dksX9_behind_5 : cX9_behind.data.toList.drop 120 = dktX9_behind_5 := dk_seg dksX9_behind_4 24 rfl rfl
theorem dX9_behind_0 : decode cX9_behind 0 = .ok (.aload_n 0, 1) := dk_42 (dk_at dksX9_behind_0 0 rfl rfl)
theorem dX9_behind_1 : decode cX9_behind 1 = .ok (.getfield 25, 3) := dk_180 0 25 (dk_at dksX9_behind_0 1 rfl rfl)
theorem dX9_behind_4 : decode cX9_behind 4 = .ok (.iconst 5, 1) := dk_8 (dk_at dksX9_behind_0 4 rfl rfl)
theorem dX9_behind_5 : decode cX9_behind 5 = .ok (.multianewarray 54 2, 4) := by decide +kernel
theorem dX9_behind_9 : decode cX9_behind 9 = .ok (.astore_n 2, 1) := dk_77 (dk_at dksX9_behind_0 9 rfl rfl)
theorem dX9_behind_10 : decode cX9_behind 10 = .ok (.aload_n 0, 1) := dk_42 (dk_at dksX9_behind_0 10 rfl rfl)
theorem dX9_behind_11 : decode cX9_behind 11 = .ok (.getfield 25, 3) := dk_180 0 25 (dk_at dksX9_behind_0 11 rfl rfl)
theorem dX9_behind_14 : decode cX9_behind 14 = .ok (.iconst 1, 1) := dk_4 (dk_at dksX9_behind_0 14 rfl rfl)
theorem dX9_behind_15 : decode cX9_behind 15 = .ok (.isub, 1) := dk_100 (dk_at dksX9_behind_0 15 rfl rfl)
theorem dX9_behind_16 : decode cX9_behind 16 = .ok (.istore_n 3, 1) := dk_62 (dk_at dksX9_behind_0 16 rfl rfl)
theorem dX9_behind_17 : decode cX9_behind 17 = .ok (.iload_n 3, 1) := dk_29 (dk_at dksX9_behind_0 17 rfl rfl)
theorem dX9_behind_18 : decode cX9_behind 18 = .ok (.ifCond .lt 117, 3) := dk_155 0 117 (dk_at dksX9_behind_0 18 rfl rfl)
theorem dX9_behind_21 : decode cX9_behind 21 = .ok (.iconst 0, 1) := dk_3 (dk_at dksX9_behind_0 21 rfl rfl)
theorem dX9_behind_22 : decode cX9_behind 22 = .ok (.istore 4, 2) := dk_54 4 (dk_at dksX9_behind_0 22 rfl rfl)
theorem dX9_behind_24 : decode cX9_behind 24 = .ok (.iload 4, 2) := dk_21 4 (dk_at dksX9_behind_1 0 rfl rfl)
theorem dX9_behind_26 : decode cX9_behind 26 = .ok (.iconst 5, 1) := dk_8 (dk_at dksX9_behind_1 2 rfl rfl)
theorem dX9_behind_27 : decode cX9_behind 27 = .ok (.if_icmp .ge 102, 3) := dk_162 0 102 (dk_at dksX9_behind_1 3 rfl rfl)
theorem dX9_behind_30 : decode cX9_behind 30 = .ok (.iload_n 3, 1) := dk_29 (dk_at dksX9_behind_1 6 rfl rfl)
theorem dX9_behind_31 : decode cX9_behind 31 = .ok (.aload_n 0, 1) := dk_42 (dk_at dksX9_behind_1 7 rfl rfl)
theorem dX9_behind_32 : decode cX9_behind 32 = .ok (.getfield 25, 3) := dk_180 0 25 (dk_at dksX9_behind_1 8 rfl rfl)
theorem dX9_behind_35 : decode cX9_behind 35 = .ok (.iconst 1, 1) := dk_4 (dk_at dksX9_behind_1 11 rfl rfl)
theorem dX9_behind_36 : decode cX9_behind 36 = .ok (.isub, 1) := dk_100 (dk_at dksX9_behind_1 12 rfl rfl)
theorem dX9_behind_37 : decode cX9_behind 37 = .ok (.if_icmp .ne 7, 3) := dk_160 0 7 (dk_at dksX9_behind_1 13 rfl rfl)
theorem dX9_behind_40 : decode cX9_behind 40 = .ok (.lconst 1, 1) := dk_10 (dk_at dksX9_behind_1 16 rfl rfl)
theorem dX9_behind_41 : decode cX9_behind 41 = .ok (.goto 4, 3) := dk_167 0 4 (dk_at dksX9_behind_1 17 rfl rfl)
theorem dX9_behind_44 : decode cX9_behind 44 = .ok (.lconst 0, 1) := dk_9 (dk_at dksX9_behind_1 20 rfl rfl)
theorem dX9_behind_45 : decode cX9_behind 45 = .ok (.lstore 5, 2) := dk_55 5 (dk_at dksX9_behind_1 21 rfl rfl)
theorem dX9_behind_47 : decode cX9_behind 47 = .ok (.iconst 0, 1) := dk_3 (dk_at dksX9_behind_1 23 rfl rfl)
theorem dX9_behind_48 : decode cX9_behind 48 = .ok (.istore 7, 2) := dk_54 7 (dk_at dksX9_behind_2 0 rfl rfl)
theorem dX9_behind_50 : decode cX9_behind 50 = .ok (.iload 7, 2) := dk_21 7 (dk_at dksX9_behind_2 2 rfl rfl)
theorem dX9_behind_52 : decode cX9_behind 52 = .ok (.iconst 5, 1) := dk_8 (dk_at dksX9_behind_2 4 rfl rfl)
theorem dX9_behind_53 : decode cX9_behind 53 = .ok (.if_icmp .ge 62, 3) := dk_162 0 62 (dk_at dksX9_behind_2 5 rfl rfl)
theorem dX9_behind_56 : decode cX9_behind 56 = .ok (.iload_n 3, 1) := dk_29 (dk_at dksX9_behind_2 8 rfl rfl)
theorem dX9_behind_57 : decode cX9_behind 57 = .ok (.aload_n 0, 1) := dk_42 (dk_at dksX9_behind_2 9 rfl rfl)
theorem dX9_behind_58 : decode cX9_behind 58 = .ok (.getfield 25, 3) := dk_180 0 25 (dk_at dksX9_behind_2 10 rfl rfl)
theorem dX9_behind_61 : decode cX9_behind 61 = .ok (.iconst 1, 1) := dk_4 (dk_at dksX9_behind_2 13 rfl rfl)
theorem dX9_behind_62 : decode cX9_behind 62 = .ok (.isub, 1) := dk_100 (dk_at dksX9_behind_2 14 rfl rfl)
theorem dX9_behind_63 : decode cX9_behind 63 = .ok (.if_icmp .ge 52, 3) := dk_162 0 52 (dk_at dksX9_behind_2 15 rfl rfl)
theorem dX9_behind_66 : decode cX9_behind 66 = .ok (.aload_n 0, 1) := dk_42 (dk_at dksX9_behind_2 18 rfl rfl)
theorem dX9_behind_67 : decode cX9_behind 67 = .ok (.iload_n 3, 1) := dk_29 (dk_at dksX9_behind_2 19 rfl rfl)
theorem dX9_behind_68 : decode cX9_behind 68 = .ok (.iconst 1, 1) := dk_4 (dk_at dksX9_behind_2 20 rfl rfl)
theorem dX9_behind_69 : decode cX9_behind 69 = .ok (.iadd, 1) := dk_96 (dk_at dksX9_behind_2 21 rfl rfl)
theorem dX9_behind_70 : decode cX9_behind 70 = .ok (.iload 4, 2) := dk_21 4 (dk_at dksX9_behind_2 22 rfl rfl)
theorem dX9_behind_72 : decode cX9_behind 72 = .ok (.iload 7, 2) := dk_21 7 (dk_at dksX9_behind_3 0 rfl rfl)
theorem dX9_behind_74 : decode cX9_behind 74 = .ok (.invokevirtual 56, 3) := dk_182 0 56 (dk_at dksX9_behind_3 2 rfl rfl)
theorem dX9_behind_77 : decode cX9_behind 77 = .ok (.aload_n 2, 1) := dk_44 (dk_at dksX9_behind_3 5 rfl rfl)
theorem dX9_behind_78 : decode cX9_behind 78 = .ok (.iload_n 3, 1) := dk_29 (dk_at dksX9_behind_3 6 rfl rfl)
theorem dX9_behind_79 : decode cX9_behind 79 = .ok (.iconst 1, 1) := dk_4 (dk_at dksX9_behind_3 7 rfl rfl)
theorem dX9_behind_80 : decode cX9_behind 80 = .ok (.iadd, 1) := dk_96 (dk_at dksX9_behind_3 8 rfl rfl)
theorem dX9_behind_81 : decode cX9_behind 81 = .ok (.aaload, 1) := dk_50 (dk_at dksX9_behind_3 9 rfl rfl)
theorem dX9_behind_82 : decode cX9_behind 82 = .ok (.iload 7, 2) := dk_21 7 (dk_at dksX9_behind_3 10 rfl rfl)
theorem dX9_behind_84 : decode cX9_behind 84 = .ok (.laload, 1) := dk_47 (dk_at dksX9_behind_3 12 rfl rfl)
theorem dX9_behind_85 : decode cX9_behind 85 = .ok (.lmul, 1) := dk_105 (dk_at dksX9_behind_3 13 rfl rfl)
theorem dX9_behind_86 : decode cX9_behind 86 = .ok (.lstore 8, 2) := dk_55 8 (dk_at dksX9_behind_3 14 rfl rfl)
theorem dX9_behind_88 : decode cX9_behind 88 = .ok (.iload_n 1, 1) := dk_27 (dk_at dksX9_behind_3 16 rfl rfl)
theorem dX9_behind_89 : decode cX9_behind 89 = .ok (.ifCond .eq 11, 3) := dk_153 0 11 (dk_at dksX9_behind_3 17 rfl rfl)
theorem dX9_behind_92 : decode cX9_behind 92 = .ok (.lload 5, 2) := dk_22 5 (dk_at dksX9_behind_3 20 rfl rfl)
theorem dX9_behind_94 : decode cX9_behind 94 = .ok (.lload 8, 2) := dk_22 8 (dk_at dksX9_behind_3 22 rfl rfl)
theorem dX9_behind_96 : decode cX9_behind 96 = .ok (.ladd, 1) := dk_97 (dk_at dksX9_behind_4 0 rfl rfl)
theorem dX9_behind_97 : decode cX9_behind 97 = .ok (.goto 10, 3) := dk_167 0 10 (dk_at dksX9_behind_4 1 rfl rfl)
theorem dX9_behind_100 : decode cX9_behind 100 = .ok (.lload 5, 2) := dk_22 5 (dk_at dksX9_behind_4 4 rfl rfl)
theorem dX9_behind_102 : decode cX9_behind 102 = .ok (.lload 8, 2) := dk_22 8 (dk_at dksX9_behind_4 6 rfl rfl)
theorem dX9_behind_104 : decode cX9_behind 104 = .ok (.invokestatic 60, 3) := dk_184 0 60 (dk_at dksX9_behind_4 8 rfl rfl)
theorem dX9_behind_107 : decode cX9_behind 107 = .ok (.lstore 5, 2) := dk_55 5 (dk_at dksX9_behind_4 11 rfl rfl)
theorem dX9_behind_109 : decode cX9_behind 109 = .ok (.iinc 7 1, 3) := dk_132 7 1 (dk_at dksX9_behind_4 13 rfl rfl)
theorem dX9_behind_112 : decode cX9_behind 112 = .ok (.goto (-62), 3) := dk_167 255 194 (dk_at dksX9_behind_4 16 rfl rfl)
theorem dX9_behind_115 : decode cX9_behind 115 = .ok (.aload_n 2, 1) := dk_44 (dk_at dksX9_behind_4 19 rfl rfl)
theorem dX9_behind_116 : decode cX9_behind 116 = .ok (.iload_n 3, 1) := dk_29 (dk_at dksX9_behind_4 20 rfl rfl)
theorem dX9_behind_117 : decode cX9_behind 117 = .ok (.aaload, 1) := dk_50 (dk_at dksX9_behind_4 21 rfl rfl)
theorem dX9_behind_118 : decode cX9_behind 118 = .ok (.iload 4, 2) := dk_21 4 (dk_at dksX9_behind_4 22 rfl rfl)
theorem dX9_behind_120 : decode cX9_behind 120 = .ok (.lload 5, 2) := dk_22 5 (dk_at dksX9_behind_5 0 rfl rfl)
theorem dX9_behind_122 : decode cX9_behind 122 = .ok (.lastore, 1) := dk_80 (dk_at dksX9_behind_5 2 rfl rfl)
theorem dX9_behind_123 : decode cX9_behind 123 = .ok (.iinc 4 1, 3) := dk_132 4 1 (dk_at dksX9_behind_5 3 rfl rfl)
theorem dX9_behind_126 : decode cX9_behind 126 = .ok (.goto (-102), 3) := dk_167 255 154 (dk_at dksX9_behind_5 6 rfl rfl)
theorem dX9_behind_129 : decode cX9_behind 129 = .ok (.iinc 3 (-1), 3) := dk_132 3 255 (dk_at dksX9_behind_5 9 rfl rfl)
theorem dX9_behind_132 : decode cX9_behind 132 = .ok (.goto (-115), 3) := dk_167 255 141 (dk_at dksX9_behind_5 12 rfl rfl)
theorem dX9_behind_135 : decode cX9_behind 135 = .ok (.aload_n 2, 1) := dk_44 (dk_at dksX9_behind_5 15 rfl rfl)
theorem dX9_behind_136 : decode cX9_behind 136 = .ok (.areturn, 1) := dk_176 (dk_at dksX9_behind_5 16 rfl rfl)
abbrev cX9_at : ByteArray := prog_9_method_2_code
def yX9_at : MethodName := ⟨RX9, "at", "(III)J"⟩
def dkwX9_at_1 : List UInt8 := [167, 0, 11, 42, 180, 0, 33, 28, 50, 29, 46, 133, 105, 173]
abbrev dktX9_at_1 : List UInt8 := dkwX9_at_1 ++ []
def dkwX9_at_0 : List UInt8 := [42, 180, 0, 30, 27, 50, 29, 46, 133, 28, 2, 160, 0, 15, 42, 180, 0, 3, 2, 29, 182, 0, 50]
abbrev dktX9_at_0 : List UInt8 := dkwX9_at_0 ++ dktX9_at_1
theorem dksX9_at_0 : cX9_at.data.toList.drop 0 = dktX9_at_0 := by decide +kernel
theorem dksX9_at_1 : cX9_at.data.toList.drop 23 = dktX9_at_1 := dk_seg dksX9_at_0 23 rfl rfl
theorem dX9_at_0 : decode cX9_at 0 = .ok (.aload_n 0, 1) := dk_42 (dk_at dksX9_at_0 0 rfl rfl)
theorem dX9_at_1 : decode cX9_at 1 = .ok (.getfield 30, 3) := dk_180 0 30 (dk_at dksX9_at_0 1 rfl rfl)
theorem dX9_at_4 : decode cX9_at 4 = .ok (.iload_n 1, 1) := dk_27 (dk_at dksX9_at_0 4 rfl rfl)
theorem dX9_at_5 : decode cX9_at 5 = .ok (.aaload, 1) := dk_50 (dk_at dksX9_at_0 5 rfl rfl)
theorem dX9_at_6 : decode cX9_at 6 = .ok (.iload_n 3, 1) := dk_29 (dk_at dksX9_at_0 6 rfl rfl)
theorem dX9_at_7 : decode cX9_at 7 = .ok (.iaload, 1) := dk_46 (dk_at dksX9_at_0 7 rfl rfl)
theorem dX9_at_8 : decode cX9_at 8 = .ok (.i2l, 1) := dk_133 (dk_at dksX9_at_0 8 rfl rfl)
theorem dX9_at_9 : decode cX9_at 9 = .ok (.iload_n 2, 1) := dk_28 (dk_at dksX9_at_0 9 rfl rfl)
theorem dX9_at_10 : decode cX9_at 10 = .ok (.iconst (-1), 1) := dk_2 (dk_at dksX9_at_0 10 rfl rfl)
theorem dX9_at_11 : decode cX9_at 11 = .ok (.if_icmp .ne 15, 3) := dk_160 0 15 (dk_at dksX9_at_0 11 rfl rfl)
theorem dX9_at_14 : decode cX9_at 14 = .ok (.aload_n 0, 1) := dk_42 (dk_at dksX9_at_0 14 rfl rfl)
theorem dX9_at_15 : decode cX9_at 15 = .ok (.getfield 3, 3) := dk_180 0 3 (dk_at dksX9_at_0 15 rfl rfl)
theorem dX9_at_18 : decode cX9_at 18 = .ok (.iconst (-1), 1) := dk_2 (dk_at dksX9_at_0 18 rfl rfl)
theorem dX9_at_19 : decode cX9_at 19 = .ok (.iload_n 3, 1) := dk_29 (dk_at dksX9_at_0 19 rfl rfl)
theorem dX9_at_20 : decode cX9_at 20 = .ok (.invokevirtual 50, 3) := dk_182 0 50 (dk_at dksX9_at_0 20 rfl rfl)
theorem dX9_at_23 : decode cX9_at 23 = .ok (.goto 11, 3) := dk_167 0 11 (dk_at dksX9_at_1 0 rfl rfl)
theorem dX9_at_26 : decode cX9_at 26 = .ok (.aload_n 0, 1) := dk_42 (dk_at dksX9_at_1 3 rfl rfl)
theorem dX9_at_27 : decode cX9_at 27 = .ok (.getfield 33, 3) := dk_180 0 33 (dk_at dksX9_at_1 4 rfl rfl)
theorem dX9_at_30 : decode cX9_at 30 = .ok (.iload_n 2, 1) := dk_28 (dk_at dksX9_at_1 7 rfl rfl)
theorem dX9_at_31 : decode cX9_at 31 = .ok (.aaload, 1) := dk_50 (dk_at dksX9_at_1 8 rfl rfl)
theorem dX9_at_32 : decode cX9_at 32 = .ok (.iload_n 3, 1) := dk_29 (dk_at dksX9_at_1 9 rfl rfl)
theorem dX9_at_33 : decode cX9_at 33 = .ok (.iaload, 1) := dk_46 (dk_at dksX9_at_1 10 rfl rfl)
theorem dX9_at_34 : decode cX9_at 34 = .ok (.i2l, 1) := dk_133 (dk_at dksX9_at_1 11 rfl rfl)
theorem dX9_at_35 : decode cX9_at 35 = .ok (.lmul, 1) := dk_105 (dk_at dksX9_at_1 12 rfl rfl)
theorem dX9_at_36 : decode cX9_at 36 = .ok (.lreturn, 1) := dk_173 (dk_at dksX9_at_1 13 rfl rfl)
abbrev cX9_goOn : ByteArray := prog_9_method_5_code
def yX9_goOn : MethodName := ⟨RX9, "goOn", "(Ljava/util/PriorityQueue;LTrellistag$Path;[[J)V"⟩
def dkwX9_goOn_6 : List UInt8 := [167, 255, 173, 177]
abbrev dktX9_goOn_6 : List UInt8 := dkwX9_goOn_6 ++ []
def dkwX9_goOn_5 : List UInt8 := [25, 11, 22, 9, 45, 21, 4, 50, 21, 8, 47, 105, 183, 0, 83, 182, 0, 86, 87, 132, 8, 1]
abbrev dktX9_goOn_5 : List UInt8 := dkwX9_goOn_5 ++ dktX9_goOn_6
def dkwX9_goOn_4 : List UInt8 := [180, 0, 98, 3, 25, 11, 3, 21, 4, 184, 0, 110, 25, 11, 21, 4, 21, 8, 79, 43, 187, 0, 81, 89]
abbrev dktX9_goOn_4 : List UInt8 := dkwX9_goOn_4 ++ dktX9_goOn_5
def dkwX9_goOn_3 : List UInt8 := [182, 0, 56, 105, 55, 9, 22, 9, 9, 148, 158, 0, 55, 21, 4, 4, 96, 188, 10, 58, 11, 44]
abbrev dktX9_goOn_3 : List UInt8 := dkwX9_goOn_3 ++ dktX9_goOn_4
def dkwX9_goOn_2 : List UInt8 := [47, 109, 55, 6, 3, 54, 8, 21, 8, 8, 162, 0, 83, 22, 6, 42, 21, 4, 21, 5, 21, 8]
abbrev dktX9_goOn_2 : List UInt8 := dkwX9_goOn_2 ++ dktX9_goOn_3
def dkwX9_goOn_1 : List UInt8 := [46, 54, 5, 21, 4, 154, 0, 7, 10, 167, 0, 17, 44, 180, 0, 106, 45, 21, 4, 4, 100, 50, 21, 5]
abbrev dktX9_goOn_1 : List UInt8 := dkwX9_goOn_1 ++ dktX9_goOn_2
def dkwX9_goOn_0 : List UInt8 := [44, 180, 0, 98, 190, 54, 4, 21, 4, 154, 0, 7, 2, 167, 0, 12, 44, 180, 0, 98, 21, 4, 4, 100]
abbrev dktX9_goOn_0 : List UInt8 := dkwX9_goOn_0 ++ dktX9_goOn_1
theorem dksX9_goOn_0 : cX9_goOn.data.toList.drop 0 = dktX9_goOn_0 := by decide +kernel
theorem dksX9_goOn_1 : cX9_goOn.data.toList.drop 24 = dktX9_goOn_1 := dk_seg dksX9_goOn_0 24 rfl rfl
theorem dksX9_goOn_2 : cX9_goOn.data.toList.drop 48 = dktX9_goOn_2 := dk_seg dksX9_goOn_1 24 rfl rfl
theorem dksX9_goOn_3 : cX9_goOn.data.toList.drop 70 = dktX9_goOn_3 := dk_seg dksX9_goOn_2 22 rfl rfl
theorem dksX9_goOn_4 : cX9_goOn.data.toList.drop 92 = dktX9_goOn_4 := dk_seg dksX9_goOn_3 22 rfl rfl
theorem dksX9_goOn_5 : cX9_goOn.data.toList.drop 116 = dktX9_goOn_5 := dk_seg dksX9_goOn_4 24 rfl rfl
theorem dksX9_goOn_6 : cX9_goOn.data.toList.drop 138 = dktX9_goOn_6 := dk_seg dksX9_goOn_5 22 rfl rfl
theorem dX9_goOn_0 : decode cX9_goOn 0 = .ok (.aload_n 2, 1) := dk_44 (dk_at dksX9_goOn_0 0 rfl rfl)
theorem dX9_goOn_1 : decode cX9_goOn 1 = .ok (.getfield 98, 3) := dk_180 0 98 (dk_at dksX9_goOn_0 1 rfl rfl)
theorem dX9_goOn_4 : decode cX9_goOn 4 = .ok (.arraylength, 1) := dk_190 (dk_at dksX9_goOn_0 4 rfl rfl)
theorem dX9_goOn_5 : decode cX9_goOn 5 = .ok (.istore 4, 2) := dk_54 4 (dk_at dksX9_goOn_0 5 rfl rfl)
theorem dX9_goOn_7 : decode cX9_goOn 7 = .ok (.iload 4, 2) := dk_21 4 (dk_at dksX9_goOn_0 7 rfl rfl)
theorem dX9_goOn_9 : decode cX9_goOn 9 = .ok (.ifCond .ne 7, 3) := dk_154 0 7 (dk_at dksX9_goOn_0 9 rfl rfl)
theorem dX9_goOn_12 : decode cX9_goOn 12 = .ok (.iconst (-1), 1) := dk_2 (dk_at dksX9_goOn_0 12 rfl rfl)
theorem dX9_goOn_13 : decode cX9_goOn 13 = .ok (.goto 12, 3) := dk_167 0 12 (dk_at dksX9_goOn_0 13 rfl rfl)
theorem dX9_goOn_16 : decode cX9_goOn 16 = .ok (.aload_n 2, 1) := dk_44 (dk_at dksX9_goOn_0 16 rfl rfl)
theorem dX9_goOn_17 : decode cX9_goOn 17 = .ok (.getfield 98, 3) := dk_180 0 98 (dk_at dksX9_goOn_0 17 rfl rfl)
theorem dX9_goOn_20 : decode cX9_goOn 20 = .ok (.iload 4, 2) := dk_21 4 (dk_at dksX9_goOn_0 20 rfl rfl)
theorem dX9_goOn_22 : decode cX9_goOn 22 = .ok (.iconst 1, 1) := dk_4 (dk_at dksX9_goOn_0 22 rfl rfl)
theorem dX9_goOn_23 : decode cX9_goOn 23 = .ok (.isub, 1) := dk_100 (dk_at dksX9_goOn_0 23 rfl rfl)
theorem dX9_goOn_24 : decode cX9_goOn 24 = .ok (.iaload, 1) := dk_46 (dk_at dksX9_goOn_1 0 rfl rfl)
theorem dX9_goOn_25 : decode cX9_goOn 25 = .ok (.istore 5, 2) := dk_54 5 (dk_at dksX9_goOn_1 1 rfl rfl)
theorem dX9_goOn_27 : decode cX9_goOn 27 = .ok (.iload 4, 2) := dk_21 4 (dk_at dksX9_goOn_1 3 rfl rfl)
theorem dX9_goOn_29 : decode cX9_goOn 29 = .ok (.ifCond .ne 7, 3) := dk_154 0 7 (dk_at dksX9_goOn_1 5 rfl rfl)
theorem dX9_goOn_32 : decode cX9_goOn 32 = .ok (.lconst 1, 1) := dk_10 (dk_at dksX9_goOn_1 8 rfl rfl)
theorem dX9_goOn_33 : decode cX9_goOn 33 = .ok (.goto 17, 3) := dk_167 0 17 (dk_at dksX9_goOn_1 9 rfl rfl)
theorem dX9_goOn_36 : decode cX9_goOn 36 = .ok (.aload_n 2, 1) := dk_44 (dk_at dksX9_goOn_1 12 rfl rfl)
theorem dX9_goOn_37 : decode cX9_goOn 37 = .ok (.getfield 106, 3) := dk_180 0 106 (dk_at dksX9_goOn_1 13 rfl rfl)
theorem dX9_goOn_40 : decode cX9_goOn 40 = .ok (.aload_n 3, 1) := dk_45 (dk_at dksX9_goOn_1 16 rfl rfl)
theorem dX9_goOn_41 : decode cX9_goOn 41 = .ok (.iload 4, 2) := dk_21 4 (dk_at dksX9_goOn_1 17 rfl rfl)
theorem dX9_goOn_43 : decode cX9_goOn 43 = .ok (.iconst 1, 1) := dk_4 (dk_at dksX9_goOn_1 19 rfl rfl)
theorem dX9_goOn_44 : decode cX9_goOn 44 = .ok (.isub, 1) := dk_100 (dk_at dksX9_goOn_1 20 rfl rfl)
theorem dX9_goOn_45 : decode cX9_goOn 45 = .ok (.aaload, 1) := dk_50 (dk_at dksX9_goOn_1 21 rfl rfl)
theorem dX9_goOn_46 : decode cX9_goOn 46 = .ok (.iload 5, 2) := dk_21 5 (dk_at dksX9_goOn_1 22 rfl rfl)
theorem dX9_goOn_48 : decode cX9_goOn 48 = .ok (.laload, 1) := dk_47 (dk_at dksX9_goOn_2 0 rfl rfl)
theorem dX9_goOn_49 : decode cX9_goOn 49 = .ok (.ldiv, 1) := dk_109 (dk_at dksX9_goOn_2 1 rfl rfl)
theorem dX9_goOn_50 : decode cX9_goOn 50 = .ok (.lstore 6, 2) := dk_55 6 (dk_at dksX9_goOn_2 2 rfl rfl)
theorem dX9_goOn_52 : decode cX9_goOn 52 = .ok (.iconst 0, 1) := dk_3 (dk_at dksX9_goOn_2 4 rfl rfl)
theorem dX9_goOn_53 : decode cX9_goOn 53 = .ok (.istore 8, 2) := dk_54 8 (dk_at dksX9_goOn_2 5 rfl rfl)
theorem dX9_goOn_55 : decode cX9_goOn 55 = .ok (.iload 8, 2) := dk_21 8 (dk_at dksX9_goOn_2 7 rfl rfl)
theorem dX9_goOn_57 : decode cX9_goOn 57 = .ok (.iconst 5, 1) := dk_8 (dk_at dksX9_goOn_2 9 rfl rfl)
theorem dX9_goOn_58 : decode cX9_goOn 58 = .ok (.if_icmp .ge 83, 3) := dk_162 0 83 (dk_at dksX9_goOn_2 10 rfl rfl)
theorem dX9_goOn_61 : decode cX9_goOn 61 = .ok (.lload 6, 2) := dk_22 6 (dk_at dksX9_goOn_2 13 rfl rfl)
theorem dX9_goOn_63 : decode cX9_goOn 63 = .ok (.aload_n 0, 1) := dk_42 (dk_at dksX9_goOn_2 15 rfl rfl)
theorem dX9_goOn_64 : decode cX9_goOn 64 = .ok (.iload 4, 2) := dk_21 4 (dk_at dksX9_goOn_2 16 rfl rfl)
theorem dX9_goOn_66 : decode cX9_goOn 66 = .ok (.iload 5, 2) := dk_21 5 (dk_at dksX9_goOn_2 18 rfl rfl)
theorem dX9_goOn_68 : decode cX9_goOn 68 = .ok (.iload 8, 2) := dk_21 8 (dk_at dksX9_goOn_2 20 rfl rfl)
theorem dX9_goOn_70 : decode cX9_goOn 70 = .ok (.invokevirtual 56, 3) := dk_182 0 56 (dk_at dksX9_goOn_3 0 rfl rfl)
theorem dX9_goOn_73 : decode cX9_goOn 73 = .ok (.lmul, 1) := dk_105 (dk_at dksX9_goOn_3 3 rfl rfl)
theorem dX9_goOn_74 : decode cX9_goOn 74 = .ok (.lstore 9, 2) := dk_55 9 (dk_at dksX9_goOn_3 4 rfl rfl)
theorem dX9_goOn_76 : decode cX9_goOn 76 = .ok (.lload 9, 2) := dk_22 9 (dk_at dksX9_goOn_3 6 rfl rfl)
theorem dX9_goOn_78 : decode cX9_goOn 78 = .ok (.lconst 0, 1) := dk_9 (dk_at dksX9_goOn_3 8 rfl rfl)
theorem dX9_goOn_79 : decode cX9_goOn 79 = .ok (.lcmp, 1) := dk_148 (dk_at dksX9_goOn_3 9 rfl rfl)
theorem dX9_goOn_80 : decode cX9_goOn 80 = .ok (.ifCond .le 55, 3) := dk_158 0 55 (dk_at dksX9_goOn_3 10 rfl rfl)
theorem dX9_goOn_83 : decode cX9_goOn 83 = .ok (.iload 4, 2) := dk_21 4 (dk_at dksX9_goOn_3 13 rfl rfl)
theorem dX9_goOn_85 : decode cX9_goOn 85 = .ok (.iconst 1, 1) := dk_4 (dk_at dksX9_goOn_3 15 rfl rfl)
theorem dX9_goOn_86 : decode cX9_goOn 86 = .ok (.iadd, 1) := dk_96 (dk_at dksX9_goOn_3 16 rfl rfl)
theorem dX9_goOn_87 : decode cX9_goOn 87 = .ok (.newarray .int, 2) := dk_188_10 (dk_at dksX9_goOn_3 17 rfl rfl)
theorem dX9_goOn_89 : decode cX9_goOn 89 = .ok (.astore 11, 2) := dk_58 11 (dk_at dksX9_goOn_3 19 rfl rfl)
theorem dX9_goOn_91 : decode cX9_goOn 91 = .ok (.aload_n 2, 1) := dk_44 (dk_at dksX9_goOn_3 21 rfl rfl)
theorem dX9_goOn_92 : decode cX9_goOn 92 = .ok (.getfield 98, 3) := dk_180 0 98 (dk_at dksX9_goOn_4 0 rfl rfl)
theorem dX9_goOn_95 : decode cX9_goOn 95 = .ok (.iconst 0, 1) := dk_3 (dk_at dksX9_goOn_4 3 rfl rfl)
theorem dX9_goOn_96 : decode cX9_goOn 96 = .ok (.aload 11, 2) := dk_25 11 (dk_at dksX9_goOn_4 4 rfl rfl)
theorem dX9_goOn_98 : decode cX9_goOn 98 = .ok (.iconst 0, 1) := dk_3 (dk_at dksX9_goOn_4 6 rfl rfl)
theorem dX9_goOn_99 : decode cX9_goOn 99 = .ok (.iload 4, 2) := dk_21 4 (dk_at dksX9_goOn_4 7 rfl rfl)
theorem dX9_goOn_101 : decode cX9_goOn 101 = .ok (.invokestatic 110, 3) := dk_184 0 110 (dk_at dksX9_goOn_4 9 rfl rfl)
theorem dX9_goOn_104 : decode cX9_goOn 104 = .ok (.aload 11, 2) := dk_25 11 (dk_at dksX9_goOn_4 12 rfl rfl)
theorem dX9_goOn_106 : decode cX9_goOn 106 = .ok (.iload 4, 2) := dk_21 4 (dk_at dksX9_goOn_4 14 rfl rfl)
theorem dX9_goOn_108 : decode cX9_goOn 108 = .ok (.iload 8, 2) := dk_21 8 (dk_at dksX9_goOn_4 16 rfl rfl)
theorem dX9_goOn_110 : decode cX9_goOn 110 = .ok (.iastore, 1) := dk_79 (dk_at dksX9_goOn_4 18 rfl rfl)
theorem dX9_goOn_111 : decode cX9_goOn 111 = .ok (.aload_n 1, 1) := dk_43 (dk_at dksX9_goOn_4 19 rfl rfl)
theorem dX9_goOn_112 : decode cX9_goOn 112 = .ok (.new 81, 3) := dk_187 0 81 (dk_at dksX9_goOn_4 20 rfl rfl)
theorem dX9_goOn_115 : decode cX9_goOn 115 = .ok (.dup, 1) := dk_89 (dk_at dksX9_goOn_4 23 rfl rfl)
theorem dX9_goOn_116 : decode cX9_goOn 116 = .ok (.aload 11, 2) := dk_25 11 (dk_at dksX9_goOn_5 0 rfl rfl)
theorem dX9_goOn_118 : decode cX9_goOn 118 = .ok (.lload 9, 2) := dk_22 9 (dk_at dksX9_goOn_5 2 rfl rfl)
theorem dX9_goOn_120 : decode cX9_goOn 120 = .ok (.aload_n 3, 1) := dk_45 (dk_at dksX9_goOn_5 4 rfl rfl)
theorem dX9_goOn_121 : decode cX9_goOn 121 = .ok (.iload 4, 2) := dk_21 4 (dk_at dksX9_goOn_5 5 rfl rfl)
theorem dX9_goOn_123 : decode cX9_goOn 123 = .ok (.aaload, 1) := dk_50 (dk_at dksX9_goOn_5 7 rfl rfl)
theorem dX9_goOn_124 : decode cX9_goOn 124 = .ok (.iload 8, 2) := dk_21 8 (dk_at dksX9_goOn_5 8 rfl rfl)
theorem dX9_goOn_126 : decode cX9_goOn 126 = .ok (.laload, 1) := dk_47 (dk_at dksX9_goOn_5 10 rfl rfl)
theorem dX9_goOn_127 : decode cX9_goOn 127 = .ok (.lmul, 1) := dk_105 (dk_at dksX9_goOn_5 11 rfl rfl)
theorem dX9_goOn_128 : decode cX9_goOn 128 = .ok (.invokespecial 83, 3) := dk_183 0 83 (dk_at dksX9_goOn_5 12 rfl rfl)
theorem dX9_goOn_131 : decode cX9_goOn 131 = .ok (.invokevirtual 86, 3) := dk_182 0 86 (dk_at dksX9_goOn_5 15 rfl rfl)
theorem dX9_goOn_134 : decode cX9_goOn 134 = .ok (.pop, 1) := dk_87 (dk_at dksX9_goOn_5 18 rfl rfl)
theorem dX9_goOn_135 : decode cX9_goOn 135 = .ok (.iinc 8 1, 3) := dk_132 8 1 (dk_at dksX9_goOn_5 19 rfl rfl)
theorem dX9_goOn_138 : decode cX9_goOn 138 = .ok (.goto (-83), 3) := dk_167 255 173 (dk_at dksX9_goOn_6 0 rfl rfl)
theorem dX9_goOn_141 : decode cX9_goOn 141 = .ok (.return_, 1) := dk_177 (dk_at dksX9_goOn_6 3 rfl rfl)
abbrev cX9_sums : ByteArray := prog_9_method_6_code
def yX9_sums : MethodName := ⟨RX9, "sums", "(I)[J"⟩
def dkwX9_sums_5 : List UInt8 := [162, 0, 22, 45, 21, 4, 92, 47, 44, 27, 50, 21, 4, 47, 105, 80, 132, 4, 1, 167, 255, 234, 45, 176]
abbrev dktX9_sums_5 : List UInt8 := dkwX9_sums_5 ++ []
def dkwX9_sums_4 : List UInt8 := [167, 255, 224, 132, 6, 1, 167, 255, 209, 25, 5, 78, 132, 4, 1, 167, 255, 186, 3, 54, 4, 21, 4, 8]
abbrev dktX9_sums_4 : List UInt8 := dkwX9_sums_4 ++ dktX9_sums_5
def dkwX9_sums_3 : List UInt8 := [21, 6, 92, 47, 45, 21, 7, 47, 42, 21, 4, 21, 7, 21, 6, 182, 0, 56, 105, 97, 80, 132, 7, 1]
abbrev dktX9_sums_3 : List UInt8 := dkwX9_sums_3 ++ dktX9_sums_4
def dkwX9_sums_2 : List UInt8 := [188, 11, 58, 5, 3, 54, 6, 21, 6, 8, 162, 0, 47, 3, 54, 7, 21, 7, 8, 162, 0, 32, 25, 5]
abbrev dktX9_sums_2 : List UInt8 := dkwX9_sums_2 ++ dktX9_sums_3
def dkwX9_sums_1 : List UInt8 := [2, 21, 4, 182, 0, 56, 80, 132, 4, 1, 167, 255, 235, 4, 54, 4, 21, 4, 27, 163, 0, 70, 8]
abbrev dktX9_sums_1 : List UInt8 := dkwX9_sums_1 ++ dktX9_sums_2
def dkwX9_sums_0 : List UInt8 := [42, 4, 182, 0, 66, 77, 8, 188, 11, 78, 3, 54, 4, 21, 4, 8, 162, 0, 21, 45, 21, 4, 42, 3]
abbrev dktX9_sums_0 : List UInt8 := dkwX9_sums_0 ++ dktX9_sums_1
theorem dksX9_sums_0 : cX9_sums.data.toList.drop 0 = dktX9_sums_0 := by decide +kernel
theorem dksX9_sums_1 : cX9_sums.data.toList.drop 24 = dktX9_sums_1 := dk_seg dksX9_sums_0 24 rfl rfl
theorem dksX9_sums_2 : cX9_sums.data.toList.drop 47 = dktX9_sums_2 := dk_seg dksX9_sums_1 23 rfl rfl
theorem dksX9_sums_3 : cX9_sums.data.toList.drop 71 = dktX9_sums_3 := dk_seg dksX9_sums_2 24 rfl rfl
theorem dksX9_sums_4 : cX9_sums.data.toList.drop 95 = dktX9_sums_4 := dk_seg dksX9_sums_3 24 rfl rfl
theorem dksX9_sums_5 : cX9_sums.data.toList.drop 119 = dktX9_sums_5 := dk_seg dksX9_sums_4 24 rfl rfl
theorem dX9_sums_0 : decode cX9_sums 0 = .ok (.aload_n 0, 1) := dk_42 (dk_at dksX9_sums_0 0 rfl rfl)
theorem dX9_sums_1 : decode cX9_sums 1 = .ok (.iconst 1, 1) := dk_4 (dk_at dksX9_sums_0 1 rfl rfl)
theorem dX9_sums_2 : decode cX9_sums 2 = .ok (.invokevirtual 66, 3) := dk_182 0 66 (dk_at dksX9_sums_0 2 rfl rfl)
theorem dX9_sums_5 : decode cX9_sums 5 = .ok (.astore_n 2, 1) := dk_77 (dk_at dksX9_sums_0 5 rfl rfl)
theorem dX9_sums_6 : decode cX9_sums 6 = .ok (.iconst 5, 1) := dk_8 (dk_at dksX9_sums_0 6 rfl rfl)
theorem dX9_sums_7 : decode cX9_sums 7 = .ok (.newarray .long, 2) := dk_188_11 (dk_at dksX9_sums_0 7 rfl rfl)
theorem dX9_sums_9 : decode cX9_sums 9 = .ok (.astore_n 3, 1) := dk_78 (dk_at dksX9_sums_0 9 rfl rfl)
theorem dX9_sums_10 : decode cX9_sums 10 = .ok (.iconst 0, 1) := dk_3 (dk_at dksX9_sums_0 10 rfl rfl)
theorem dX9_sums_11 : decode cX9_sums 11 = .ok (.istore 4, 2) := dk_54 4 (dk_at dksX9_sums_0 11 rfl rfl)
theorem dX9_sums_13 : decode cX9_sums 13 = .ok (.iload 4, 2) := dk_21 4 (dk_at dksX9_sums_0 13 rfl rfl)
theorem dX9_sums_15 : decode cX9_sums 15 = .ok (.iconst 5, 1) := dk_8 (dk_at dksX9_sums_0 15 rfl rfl)
theorem dX9_sums_16 : decode cX9_sums 16 = .ok (.if_icmp .ge 21, 3) := dk_162 0 21 (dk_at dksX9_sums_0 16 rfl rfl)
theorem dX9_sums_19 : decode cX9_sums 19 = .ok (.aload_n 3, 1) := dk_45 (dk_at dksX9_sums_0 19 rfl rfl)
theorem dX9_sums_20 : decode cX9_sums 20 = .ok (.iload 4, 2) := dk_21 4 (dk_at dksX9_sums_0 20 rfl rfl)
theorem dX9_sums_22 : decode cX9_sums 22 = .ok (.aload_n 0, 1) := dk_42 (dk_at dksX9_sums_0 22 rfl rfl)
theorem dX9_sums_23 : decode cX9_sums 23 = .ok (.iconst 0, 1) := dk_3 (dk_at dksX9_sums_0 23 rfl rfl)
theorem dX9_sums_24 : decode cX9_sums 24 = .ok (.iconst (-1), 1) := dk_2 (dk_at dksX9_sums_1 0 rfl rfl)
theorem dX9_sums_25 : decode cX9_sums 25 = .ok (.iload 4, 2) := dk_21 4 (dk_at dksX9_sums_1 1 rfl rfl)
theorem dX9_sums_27 : decode cX9_sums 27 = .ok (.invokevirtual 56, 3) := dk_182 0 56 (dk_at dksX9_sums_1 3 rfl rfl)
theorem dX9_sums_30 : decode cX9_sums 30 = .ok (.lastore, 1) := dk_80 (dk_at dksX9_sums_1 6 rfl rfl)
theorem dX9_sums_31 : decode cX9_sums 31 = .ok (.iinc 4 1, 3) := dk_132 4 1 (dk_at dksX9_sums_1 7 rfl rfl)
theorem dX9_sums_34 : decode cX9_sums 34 = .ok (.goto (-21), 3) := dk_167 255 235 (dk_at dksX9_sums_1 10 rfl rfl)
theorem dX9_sums_37 : decode cX9_sums 37 = .ok (.iconst 1, 1) := dk_4 (dk_at dksX9_sums_1 13 rfl rfl)
theorem dX9_sums_38 : decode cX9_sums 38 = .ok (.istore 4, 2) := dk_54 4 (dk_at dksX9_sums_1 14 rfl rfl)
theorem dX9_sums_40 : decode cX9_sums 40 = .ok (.iload 4, 2) := dk_21 4 (dk_at dksX9_sums_1 16 rfl rfl)
theorem dX9_sums_42 : decode cX9_sums 42 = .ok (.iload_n 1, 1) := dk_27 (dk_at dksX9_sums_1 18 rfl rfl)
theorem dX9_sums_43 : decode cX9_sums 43 = .ok (.if_icmp .gt 70, 3) := dk_163 0 70 (dk_at dksX9_sums_1 19 rfl rfl)
theorem dX9_sums_46 : decode cX9_sums 46 = .ok (.iconst 5, 1) := dk_8 (dk_at dksX9_sums_1 22 rfl rfl)
theorem dX9_sums_47 : decode cX9_sums 47 = .ok (.newarray .long, 2) := dk_188_11 (dk_at dksX9_sums_2 0 rfl rfl)
theorem dX9_sums_49 : decode cX9_sums 49 = .ok (.astore 5, 2) := dk_58 5 (dk_at dksX9_sums_2 2 rfl rfl)
theorem dX9_sums_51 : decode cX9_sums 51 = .ok (.iconst 0, 1) := dk_3 (dk_at dksX9_sums_2 4 rfl rfl)
theorem dX9_sums_52 : decode cX9_sums 52 = .ok (.istore 6, 2) := dk_54 6 (dk_at dksX9_sums_2 5 rfl rfl)
theorem dX9_sums_54 : decode cX9_sums 54 = .ok (.iload 6, 2) := dk_21 6 (dk_at dksX9_sums_2 7 rfl rfl)
theorem dX9_sums_56 : decode cX9_sums 56 = .ok (.iconst 5, 1) := dk_8 (dk_at dksX9_sums_2 9 rfl rfl)
theorem dX9_sums_57 : decode cX9_sums 57 = .ok (.if_icmp .ge 47, 3) := dk_162 0 47 (dk_at dksX9_sums_2 10 rfl rfl)
theorem dX9_sums_60 : decode cX9_sums 60 = .ok (.iconst 0, 1) := dk_3 (dk_at dksX9_sums_2 13 rfl rfl)
theorem dX9_sums_61 : decode cX9_sums 61 = .ok (.istore 7, 2) := dk_54 7 (dk_at dksX9_sums_2 14 rfl rfl)
theorem dX9_sums_63 : decode cX9_sums 63 = .ok (.iload 7, 2) := dk_21 7 (dk_at dksX9_sums_2 16 rfl rfl)
theorem dX9_sums_65 : decode cX9_sums 65 = .ok (.iconst 5, 1) := dk_8 (dk_at dksX9_sums_2 18 rfl rfl)
theorem dX9_sums_66 : decode cX9_sums 66 = .ok (.if_icmp .ge 32, 3) := dk_162 0 32 (dk_at dksX9_sums_2 19 rfl rfl)
theorem dX9_sums_69 : decode cX9_sums 69 = .ok (.aload 5, 2) := dk_25 5 (dk_at dksX9_sums_2 22 rfl rfl)
theorem dX9_sums_71 : decode cX9_sums 71 = .ok (.iload 6, 2) := dk_21 6 (dk_at dksX9_sums_3 0 rfl rfl)
theorem dX9_sums_73 : decode cX9_sums 73 = .ok (.dup2, 1) := dk_92 (dk_at dksX9_sums_3 2 rfl rfl)
theorem dX9_sums_74 : decode cX9_sums 74 = .ok (.laload, 1) := dk_47 (dk_at dksX9_sums_3 3 rfl rfl)
theorem dX9_sums_75 : decode cX9_sums 75 = .ok (.aload_n 3, 1) := dk_45 (dk_at dksX9_sums_3 4 rfl rfl)
theorem dX9_sums_76 : decode cX9_sums 76 = .ok (.iload 7, 2) := dk_21 7 (dk_at dksX9_sums_3 5 rfl rfl)
theorem dX9_sums_78 : decode cX9_sums 78 = .ok (.laload, 1) := dk_47 (dk_at dksX9_sums_3 7 rfl rfl)
theorem dX9_sums_79 : decode cX9_sums 79 = .ok (.aload_n 0, 1) := dk_42 (dk_at dksX9_sums_3 8 rfl rfl)
theorem dX9_sums_80 : decode cX9_sums 80 = .ok (.iload 4, 2) := dk_21 4 (dk_at dksX9_sums_3 9 rfl rfl)
theorem dX9_sums_82 : decode cX9_sums 82 = .ok (.iload 7, 2) := dk_21 7 (dk_at dksX9_sums_3 11 rfl rfl)
theorem dX9_sums_84 : decode cX9_sums 84 = .ok (.iload 6, 2) := dk_21 6 (dk_at dksX9_sums_3 13 rfl rfl)
theorem dX9_sums_86 : decode cX9_sums 86 = .ok (.invokevirtual 56, 3) := dk_182 0 56 (dk_at dksX9_sums_3 15 rfl rfl)
theorem dX9_sums_89 : decode cX9_sums 89 = .ok (.lmul, 1) := dk_105 (dk_at dksX9_sums_3 18 rfl rfl)
theorem dX9_sums_90 : decode cX9_sums 90 = .ok (.ladd, 1) := dk_97 (dk_at dksX9_sums_3 19 rfl rfl)
theorem dX9_sums_91 : decode cX9_sums 91 = .ok (.lastore, 1) := dk_80 (dk_at dksX9_sums_3 20 rfl rfl)
theorem dX9_sums_92 : decode cX9_sums 92 = .ok (.iinc 7 1, 3) := dk_132 7 1 (dk_at dksX9_sums_3 21 rfl rfl)
theorem dX9_sums_95 : decode cX9_sums 95 = .ok (.goto (-32), 3) := dk_167 255 224 (dk_at dksX9_sums_4 0 rfl rfl)
theorem dX9_sums_98 : decode cX9_sums 98 = .ok (.iinc 6 1, 3) := dk_132 6 1 (dk_at dksX9_sums_4 3 rfl rfl)
theorem dX9_sums_101 : decode cX9_sums 101 = .ok (.goto (-47), 3) := dk_167 255 209 (dk_at dksX9_sums_4 6 rfl rfl)
theorem dX9_sums_104 : decode cX9_sums 104 = .ok (.aload 5, 2) := dk_25 5 (dk_at dksX9_sums_4 9 rfl rfl)
theorem dX9_sums_106 : decode cX9_sums 106 = .ok (.astore_n 3, 1) := dk_78 (dk_at dksX9_sums_4 11 rfl rfl)
theorem dX9_sums_107 : decode cX9_sums 107 = .ok (.iinc 4 1, 3) := dk_132 4 1 (dk_at dksX9_sums_4 12 rfl rfl)
theorem dX9_sums_110 : decode cX9_sums 110 = .ok (.goto (-70), 3) := dk_167 255 186 (dk_at dksX9_sums_4 15 rfl rfl)
theorem dX9_sums_113 : decode cX9_sums 113 = .ok (.iconst 0, 1) := dk_3 (dk_at dksX9_sums_4 18 rfl rfl)
theorem dX9_sums_114 : decode cX9_sums 114 = .ok (.istore 4, 2) := dk_54 4 (dk_at dksX9_sums_4 19 rfl rfl)
theorem dX9_sums_116 : decode cX9_sums 116 = .ok (.iload 4, 2) := dk_21 4 (dk_at dksX9_sums_4 21 rfl rfl)
theorem dX9_sums_118 : decode cX9_sums 118 = .ok (.iconst 5, 1) := dk_8 (dk_at dksX9_sums_4 23 rfl rfl)
theorem dX9_sums_119 : decode cX9_sums 119 = .ok (.if_icmp .ge 22, 3) := dk_162 0 22 (dk_at dksX9_sums_5 0 rfl rfl)
theorem dX9_sums_122 : decode cX9_sums 122 = .ok (.aload_n 3, 1) := dk_45 (dk_at dksX9_sums_5 3 rfl rfl)
theorem dX9_sums_123 : decode cX9_sums 123 = .ok (.iload 4, 2) := dk_21 4 (dk_at dksX9_sums_5 4 rfl rfl)
theorem dX9_sums_125 : decode cX9_sums 125 = .ok (.dup2, 1) := dk_92 (dk_at dksX9_sums_5 6 rfl rfl)
theorem dX9_sums_126 : decode cX9_sums 126 = .ok (.laload, 1) := dk_47 (dk_at dksX9_sums_5 7 rfl rfl)
theorem dX9_sums_127 : decode cX9_sums 127 = .ok (.aload_n 2, 1) := dk_44 (dk_at dksX9_sums_5 8 rfl rfl)
theorem dX9_sums_128 : decode cX9_sums 128 = .ok (.iload_n 1, 1) := dk_27 (dk_at dksX9_sums_5 9 rfl rfl)
theorem dX9_sums_129 : decode cX9_sums 129 = .ok (.aaload, 1) := dk_50 (dk_at dksX9_sums_5 10 rfl rfl)
theorem dX9_sums_130 : decode cX9_sums 130 = .ok (.iload 4, 2) := dk_21 4 (dk_at dksX9_sums_5 11 rfl rfl)
theorem dX9_sums_132 : decode cX9_sums 132 = .ok (.laload, 1) := dk_47 (dk_at dksX9_sums_5 13 rfl rfl)
theorem dX9_sums_133 : decode cX9_sums 133 = .ok (.lmul, 1) := dk_105 (dk_at dksX9_sums_5 14 rfl rfl)
theorem dX9_sums_134 : decode cX9_sums 134 = .ok (.lastore, 1) := dk_80 (dk_at dksX9_sums_5 15 rfl rfl)
theorem dX9_sums_135 : decode cX9_sums 135 = .ok (.iinc 4 1, 3) := dk_132 4 1 (dk_at dksX9_sums_5 16 rfl rfl)
theorem dX9_sums_138 : decode cX9_sums 138 = .ok (.goto (-22), 3) := dk_167 255 234 (dk_at dksX9_sums_5 19 rfl rfl)
theorem dX9_sums_141 : decode cX9_sums 141 = .ok (.aload_n 3, 1) := dk_45 (dk_at dksX9_sums_5 22 rfl rfl)
theorem dX9_sums_142 : decode cX9_sums 142 = .ok (.areturn, 1) := dk_176 (dk_at dksX9_sums_5 23 rfl rfl)
theorem q75 : (Jvm.Cond.initialized "Trellistag$Trellis") ∈ lw_all := lw_g (lw_at lw_m1 40 rfl) rfl
theorem q184 : (Jvm.Cond.fieldLinkNest "Trellistag$Trellis" (15 : Nat) "Trellistag" "sentence" "Ljava/util/List;" "Trellistag") ∈ lw_tbl := lw_at lw_m1 149 rfl
theorem q186 : (Jvm.Cond.fieldLinkNest "Trellistag$Trellis" (36 : Nat) "Trellistag" "locks" "[I" "Trellistag") ∈ lw_tbl := lw_at lw_m1 151 rfl
theorem q774 : (Jvm.Cond.selects "Trellistag$Trellis" ({ cls := "java/lang/Object", name := "getClass", desc := "()Ljava/lang/Class;" } : Jvm.MethodName) ({ cls := "java/lang/Object", name := "getClass", desc := "()Ljava/lang/Class;" } : Jvm.MethodName)) ∈ lw_all := lw_g (lw_at lw_m4 19 rfl) rfl
theorem q1274 : (Jvm.Cond.instantiable "Trellistag$Trellis" (4 : Nat)) ∈ lw_all := lw_g (lw_at lw_m6 39 rfl) rfl
theorem q1276 : (Jvm.Cond.instanceMethod ({ cls := "Trellistag$Trellis", name := "<init>", desc := "(LTrellistag;)V" } : Jvm.MethodName)) ∈ lw_all := lw_g (lw_at lw_m6 41 rfl) rfl
theorem q1277 : (Jvm.Cond.code ({ cls := "Trellistag$Trellis", name := "<init>", desc := "(LTrellistag;)V" } : Jvm.MethodName) prog_9_method_1_code (5 : Nat) (Option.none : Option Jvm.ClassFile.FieldType)) ∈ lw_all := lw_g (lw_at lw_m6 42 rfl) rfl
theorem q1278 : (Jvm.Cond.methodLink "Trellistag$Trellis" (9 : Nat) ({ cls := "java/lang/Object", name := "<init>", desc := "()V" } : Jvm.MethodName)) ∈ lw_all := lw_g (lw_at lw_m6 43 rfl) rfl
theorem q1279 : (Jvm.Cond.interfaceEntry "Trellistag$Trellis" (19 : Nat)) ∈ lw_tbl := lw_at lw_m6 44 rfl
theorem q1280 : (Jvm.Cond.methodLink "Trellistag$Trellis" (19 : Nat) ({ cls := "java/util/List", name := "size", desc := "()I" } : Jvm.MethodName)) ∈ lw_all := lw_g (lw_at lw_m6 45 rfl) rfl
theorem q1281 : (Jvm.Cond.classLink "Trellistag$Trellis" (28 : Nat) "[[I") ∈ lw_all := lw_g (lw_at lw_m6 46 rfl) rfl
theorem q1282 : (Jvm.Cond.interfaceEntry "Trellistag$Trellis" (40 : Nat)) ∈ lw_tbl := lw_at lw_m6 47 rfl
theorem q1283 : (Jvm.Cond.methodLink "Trellistag$Trellis" (40 : Nat) ({ cls := "java/util/List", name := "get", desc := "(I)Ljava/lang/Object;" } : Jvm.MethodName)) ∈ lw_all := lw_g (lw_at lw_m6 48 rfl) rfl
theorem q1284 : (Jvm.Cond.classLink "Trellistag$Trellis" (44 : Nat) "java/lang/String") ∈ lw_all := lw_g (lw_at lw_m6 49 rfl) rfl
theorem q1285 : (Jvm.Cond.methodLinkNest "Trellistag$Trellis" (46 : Nat) ({ cls := "Trellistag", name := "weightOf", desc := "(Ljava/lang/String;I)I" } : Jvm.MethodName) "Trellistag") ∈ lw_tbl := lw_at lw_m6 50 rfl
theorem q1286 : (Jvm.Cond.methodLinkNest "Trellistag$Trellis" (50 : Nat) ({ cls := "Trellistag", name := "stepOf", desc := "(II)I" } : Jvm.MethodName) "Trellistag") ∈ lw_tbl := lw_at lw_m6 51 rfl
theorem q1287 : (Jvm.Cond.fieldLink "Trellistag$Trellis" (25 : Nat) "Trellistag$Trellis" "size" "I") ∈ lw_all := lw_g (lw_at lw_m6 52 rfl) rfl
theorem q1289 : (Jvm.Cond.fieldLink "Trellistag$Trellis" (30 : Nat) "Trellistag$Trellis" "words" "[[I") ∈ lw_all := lw_g (lw_at lw_m6 54 rfl) rfl
theorem q1290 : (Jvm.Cond.fieldLink "Trellistag$Trellis" (33 : Nat) "Trellistag$Trellis" "steps" "[[I") ∈ lw_all := lw_g (lw_at lw_m6 55 rfl) rfl
theorem q1291 : (Jvm.Cond.fieldLink "Trellistag$Trellis" (3 : Nat) "Trellistag$Trellis" "this$0" "LTrellistag;") ∈ lw_all := lw_g (lw_at lw_m6 56 rfl) rfl
theorem q1292 : (Jvm.Cond.laysFinal "Trellistag$Trellis" "Trellistag$Trellis" "size" "I") ∈ lw_all := lw_g (lw_at lw_m6 57 rfl) rfl
theorem q1293 : (Jvm.Cond.soleField "Trellistag$Trellis" "size") ∈ lw_all := lw_g (lw_at lw_m6 58 rfl) rfl
theorem q1294 : (Jvm.Cond.laysFinal "Trellistag$Trellis" "Trellistag$Trellis" "words" "[[I") ∈ lw_all := lw_g (lw_at lw_m6 59 rfl) rfl
theorem q1295 : (Jvm.Cond.soleField "Trellistag$Trellis" "words") ∈ lw_all := lw_g (lw_at lw_m6 60 rfl) rfl
theorem q1296 : (Jvm.Cond.laysFinal "Trellistag$Trellis" "Trellistag$Trellis" "steps" "[[I") ∈ lw_all := lw_g (lw_at lw_m6 61 rfl) rfl
theorem q1297 : (Jvm.Cond.soleField "Trellistag$Trellis" "steps") ∈ lw_all := lw_g (lw_at lw_m6 62 rfl) rfl
theorem q1298 : (Jvm.Cond.laysFinal "Trellistag$Trellis" "Trellistag$Trellis" "this$0" "LTrellistag;") ∈ lw_all := lw_g (lw_at lw_m6 63 rfl) rfl
theorem q1299 : (Jvm.Cond.soleField "Trellistag$Trellis" "this$0") ∈ lw_all := lw_g (lw_at lw_m6 64 rfl) rfl
theorem q1300 : (Jvm.Cond.superclass "Trellistag$Trellis" "java/lang/Object") ∈ lw_all := lw_g (lw_at lw_m6 65 rfl) rfl
theorem q1302 : (Jvm.Cond.instanceMethod ({ cls := "Trellistag$Trellis", name := "ranked", desc := "(I)Ljava/util/List;" } : Jvm.MethodName)) ∈ lw_all := lw_g (lw_at lw_m6 67 rfl) rfl
theorem q1303 : (Jvm.Cond.selects "Trellistag$Trellis" ({ cls := "Trellistag$Trellis", name := "ranked", desc := "(I)Ljava/util/List;" } : Jvm.MethodName) ({ cls := "Trellistag$Trellis", name := "ranked", desc := "(I)Ljava/util/List;" } : Jvm.MethodName)) ∈ lw_all := lw_g (lw_at lw_m6 68 rfl) rfl
theorem q1304 : (Jvm.Cond.code ({ cls := "Trellistag$Trellis", name := "ranked", desc := "(I)Ljava/util/List;" } : Jvm.MethodName) prog_9_method_4_code (6 : Nat) (Option.some (Jvm.ClassFile.FieldType.object "java/util/List"))) ∈ lw_all := lw_g (lw_at lw_m6 69 rfl) rfl
theorem q1305 : (Jvm.Cond.methodLink "Trellistag$Trellis" (66 : Nat) ({ cls := "Trellistag$Trellis", name := "behind", desc := "(Z)[[J" } : Jvm.MethodName)) ∈ lw_all := lw_g (lw_at lw_m6 70 rfl) rfl
theorem q1306 : (Jvm.Cond.instanceMethod ({ cls := "Trellistag$Trellis", name := "behind", desc := "(Z)[[J" } : Jvm.MethodName)) ∈ lw_all := lw_g (lw_at lw_m6 71 rfl) rfl
theorem q1307 : (Jvm.Cond.selects "Trellistag$Trellis" ({ cls := "Trellistag$Trellis", name := "behind", desc := "(Z)[[J" } : Jvm.MethodName) ({ cls := "Trellistag$Trellis", name := "behind", desc := "(Z)[[J" } : Jvm.MethodName)) ∈ lw_all := lw_g (lw_at lw_m6 72 rfl) rfl
theorem q1308 : (Jvm.Cond.code ({ cls := "Trellistag$Trellis", name := "behind", desc := "(Z)[[J" } : Jvm.MethodName) prog_9_method_3_code (10 : Nat) (Option.some (Jvm.ClassFile.FieldType.array (Jvm.ClassFile.FieldType.array Jvm.ClassFile.FieldType.long)))) ∈ lw_all := lw_g (lw_at lw_m6 73 rfl) rfl
theorem q1309 : (Jvm.Cond.classLink "Trellistag$Trellis" (54 : Nat) "[[J") ∈ lw_all := lw_g (lw_at lw_m6 74 rfl) rfl
theorem q1311 : (Jvm.Cond.methodLink "Trellistag$Trellis" (56 : Nat) ({ cls := "Trellistag$Trellis", name := "at", desc := "(III)J" } : Jvm.MethodName)) ∈ lw_all := lw_g (lw_at lw_m6 76 rfl) rfl
theorem q1312 : (Jvm.Cond.instanceMethod ({ cls := "Trellistag$Trellis", name := "at", desc := "(III)J" } : Jvm.MethodName)) ∈ lw_all := lw_g (lw_at lw_m6 77 rfl) rfl
theorem q1313 : (Jvm.Cond.selects "Trellistag$Trellis" ({ cls := "Trellistag$Trellis", name := "at", desc := "(III)J" } : Jvm.MethodName) ({ cls := "Trellistag$Trellis", name := "at", desc := "(III)J" } : Jvm.MethodName)) ∈ lw_all := lw_g (lw_at lw_m6 78 rfl) rfl
theorem q1314 : (Jvm.Cond.code ({ cls := "Trellistag$Trellis", name := "at", desc := "(III)J" } : Jvm.MethodName) prog_9_method_2_code (4 : Nat) (Option.some Jvm.ClassFile.FieldType.long)) ∈ lw_all := lw_g (lw_at lw_m6 79 rfl) rfl
theorem q1315 : (Jvm.Cond.methodLink "Trellistag$Trellis" (60 : Nat) ({ cls := "java/lang/Math", name := "max", desc := "(JJ)J" } : Jvm.MethodName)) ∈ lw_all := lw_g (lw_at lw_m6 80 rfl) rfl
theorem q1318 : (Jvm.Cond.classLink "Trellistag$Trellis" (70 : Nat) "java/util/PriorityQueue") ∈ lw_all := lw_g (lw_at lw_m6 83 rfl) rfl
theorem q1320 : (Jvm.Cond.classLink "Trellistag$Trellis" (72 : Nat) "Trellistag$ByWeight") ∈ lw_all := lw_g (lw_at lw_m6 85 rfl) rfl
theorem q1322 : (Jvm.Cond.methodLinkNest "Trellistag$Trellis" (74 : Nat) ({ cls := "Trellistag$ByWeight", name := "<init>", desc := "()V" } : Jvm.MethodName) "Trellistag") ∈ lw_tbl := lw_at lw_m6 87 rfl
theorem q1328 : (Jvm.Cond.methodLink "Trellistag$Trellis" (75 : Nat) ({ cls := "java/util/PriorityQueue", name := "<init>", desc := "(Ljava/util/Comparator;)V" } : Jvm.MethodName)) ∈ lw_all := lw_g (lw_at lw_m6 93 rfl) rfl
theorem q1354 : (Jvm.Cond.classLink "Trellistag$Trellis" (78 : Nat) "java/util/ArrayList") ∈ lw_all := lw_g (lw_at lw_m6 119 rfl) rfl
theorem q1355 : (Jvm.Cond.methodLink "Trellistag$Trellis" (80 : Nat) ({ cls := "java/util/ArrayList", name := "<init>", desc := "()V" } : Jvm.MethodName)) ∈ lw_all := lw_g (lw_at lw_m6 120 rfl) rfl
theorem q1356 : (Jvm.Cond.classLink "Trellistag$Trellis" (81 : Nat) "Trellistag$Path") ∈ lw_all := lw_g (lw_at lw_m6 121 rfl) rfl
theorem q1358 : (Jvm.Cond.methodLink "Trellistag$Trellis" (83 : Nat) ({ cls := "Trellistag$Path", name := "<init>", desc := "([IJ)V" } : Jvm.MethodName)) ∈ lw_all := lw_g (lw_at lw_m6 123 rfl) rfl
theorem q1363 : (Jvm.Cond.fieldLink "Trellistag$Trellis" (98 : Nat) "Trellistag$Path" "tags" "[I") ∈ lw_all := lw_g (lw_at lw_m6 128 rfl) rfl
theorem q1368 : (Jvm.Cond.fieldLink "Trellistag$Trellis" (106 : Nat) "Trellistag$Path" "weight" "J") ∈ lw_all := lw_g (lw_at lw_m6 133 rfl) rfl
theorem q1378 : (Jvm.Cond.methodLink "Trellistag$Trellis" (86 : Nat) ({ cls := "java/util/PriorityQueue", name := "add", desc := "(Ljava/lang/Object;)Z" } : Jvm.MethodName)) ∈ lw_all := lw_g (lw_at lw_m6 143 rfl) rfl
theorem q1407 : (Jvm.Cond.methodLink "Trellistag$Trellis" (90 : Nat) ({ cls := "java/util/PriorityQueue", name := "isEmpty", desc := "()Z" } : Jvm.MethodName)) ∈ lw_all := lw_g (lw_at lw_m6 172 rfl) rfl
theorem q1420 : (Jvm.Cond.methodLink "Trellistag$Trellis" (94 : Nat) ({ cls := "java/util/PriorityQueue", name := "poll", desc := "()Ljava/lang/Object;" } : Jvm.MethodName)) ∈ lw_all := lw_g (lw_at lw_m6 185 rfl) rfl
theorem q1430 : (Jvm.Cond.interfaceEntry "Trellistag$Trellis" (101 : Nat)) ∈ lw_tbl := lw_at lw_m6 195 rfl
theorem q1431 : (Jvm.Cond.methodLink "Trellistag$Trellis" (101 : Nat) ({ cls := "java/util/List", name := "add", desc := "(Ljava/lang/Object;)Z" } : Jvm.MethodName)) ∈ lw_all := lw_g (lw_at lw_m6 196 rfl) rfl
theorem q1432 : (Jvm.Cond.methodLink "Trellistag$Trellis" (102 : Nat) ({ cls := "Trellistag$Trellis", name := "goOn", desc := "(Ljava/util/PriorityQueue;LTrellistag$Path;[[J)V" } : Jvm.MethodName)) ∈ lw_all := lw_g (lw_at lw_m6 197 rfl) rfl
theorem q1433 : (Jvm.Cond.privateMethod ({ cls := "Trellistag$Trellis", name := "goOn", desc := "(Ljava/util/PriorityQueue;LTrellistag$Path;[[J)V" } : Jvm.MethodName)) ∈ lw_tbl := lw_at lw_m6 198 rfl
theorem q1434 : (Jvm.Cond.instanceMethod ({ cls := "Trellistag$Trellis", name := "goOn", desc := "(Ljava/util/PriorityQueue;LTrellistag$Path;[[J)V" } : Jvm.MethodName)) ∈ lw_all := lw_g (lw_at lw_m6 199 rfl) rfl
theorem q1435 : (Jvm.Cond.code ({ cls := "Trellistag$Trellis", name := "goOn", desc := "(Ljava/util/PriorityQueue;LTrellistag$Path;[[J)V" } : Jvm.MethodName) prog_9_method_5_code (12 : Nat) (Option.none : Option Jvm.ClassFile.FieldType)) ∈ lw_all := lw_g (lw_at lw_m6 200 rfl) rfl
theorem q1436 : (Jvm.Cond.methodLink "Trellistag$Trellis" (110 : Nat) ({ cls := "java/lang/System", name := "arraycopy", desc := "(Ljava/lang/Object;ILjava/lang/Object;II)V" } : Jvm.MethodName)) ∈ lw_all := lw_g (lw_at lw_m6 201 rfl) rfl
theorem q1540 : (Jvm.Cond.instanceMethod ({ cls := "Trellistag$Trellis", name := "sums", desc := "(I)[J" } : Jvm.MethodName)) ∈ lw_all := lw_g (lw_at lw_m7 65 rfl) rfl
theorem q1541 : (Jvm.Cond.selects "Trellistag$Trellis" ({ cls := "Trellistag$Trellis", name := "sums", desc := "(I)[J" } : Jvm.MethodName) ({ cls := "Trellistag$Trellis", name := "sums", desc := "(I)[J" } : Jvm.MethodName)) ∈ lw_all := lw_g (lw_at lw_m7 66 rfl) rfl
theorem q1542 : (Jvm.Cond.code ({ cls := "Trellistag$Trellis", name := "sums", desc := "(I)[J" } : Jvm.MethodName) prog_9_method_6_code (8 : Nat) (Option.some (Jvm.ClassFile.FieldType.array Jvm.ClassFile.FieldType.long))) ∈ lw_all := lw_g (lw_at lw_m7 67 rfl) rfl
theorem q1801 : (Jvm.Cond.castable "Trellistag$Trellis" "java/lang/Object") ∈ lw_tbl := lw_at lw_m8 86 rfl
theorem in_X9 : ∀ w ∈ wsX90, w ∈ lw_all := lw_in wsX90 [1292, 1294, 1296, 1298] (by decide +kernel) (by decide +kernel)

/-! Trellistag$ByWeight -/
set_option maxRecDepth 100000
def RX10 : String := "Trellistag$ByWeight"
abbrev cX10_compare : ByteArray := prog_3_method_3_code
def yX10_compare : MethodName := ⟨RX10, "compare", "(Ljava/lang/Object;Ljava/lang/Object;)I"⟩
def dkwX10_compare_0 : List UInt8 := [42, 43, 192, 0, 8, 44, 192, 0, 8, 182, 0, 29, 172]
abbrev dktX10_compare_0 : List UInt8 := dkwX10_compare_0 ++ []
theorem dksX10_compare_0 : cX10_compare.data.toList.drop 0 = dktX10_compare_0 := by decide +kernel
theorem dX10_compare_0 : decode cX10_compare 0 = .ok (.aload_n 0, 1) := dk_42 (dk_at dksX10_compare_0 0 rfl rfl)
theorem dX10_compare_1 : decode cX10_compare 1 = .ok (.aload_n 1, 1) := dk_43 (dk_at dksX10_compare_0 1 rfl rfl)
theorem dX10_compare_2 : decode cX10_compare 2 = .ok (.checkcast 8, 3) := dk_192 0 8 (dk_at dksX10_compare_0 2 rfl rfl)
theorem dX10_compare_5 : decode cX10_compare 5 = .ok (.aload_n 2, 1) := dk_44 (dk_at dksX10_compare_0 5 rfl rfl)
theorem dX10_compare_6 : decode cX10_compare 6 = .ok (.checkcast 8, 3) := dk_192 0 8 (dk_at dksX10_compare_0 6 rfl rfl)
theorem dX10_compare_9 : decode cX10_compare 9 = .ok (.invokevirtual 29, 3) := dk_182 0 29 (dk_at dksX10_compare_0 9 rfl rfl)
theorem dX10_compare_12 : decode cX10_compare 12 = .ok (.ireturn, 1) := dk_172 (dk_at dksX10_compare_0 12 rfl rfl)
abbrev cX10_compare_2 : ByteArray := prog_3_method_2_code
def yX10_compare_2 : MethodName := ⟨RX10, "compare", "(LTrellistag$Path;LTrellistag$Path;)I"⟩
def dkwX10_compare_2_1 : List UInt8 := [167, 0, 14, 43, 182, 0, 19, 44, 182, 0, 19, 182, 0, 23, 172]
abbrev dktX10_compare_2_1 : List UInt8 := dkwX10_compare_2_1 ++ []
def dkwX10_compare_2_0 : List UInt8 := [43, 180, 0, 7, 44, 180, 0, 7, 148, 153, 0, 17, 44, 180, 0, 7, 43, 180, 0, 7, 184, 0, 13]
abbrev dktX10_compare_2_0 : List UInt8 := dkwX10_compare_2_0 ++ dktX10_compare_2_1
theorem dksX10_compare_2_0 : cX10_compare_2.data.toList.drop 0 = dktX10_compare_2_0 := by decide +kernel
theorem dksX10_compare_2_1 : cX10_compare_2.data.toList.drop 23 = dktX10_compare_2_1 := dk_seg dksX10_compare_2_0 23 rfl rfl
theorem dX10_compare_2_0 : decode cX10_compare_2 0 = .ok (.aload_n 1, 1) := dk_43 (dk_at dksX10_compare_2_0 0 rfl rfl)
theorem dX10_compare_2_1 : decode cX10_compare_2 1 = .ok (.getfield 7, 3) := dk_180 0 7 (dk_at dksX10_compare_2_0 1 rfl rfl)
theorem dX10_compare_2_4 : decode cX10_compare_2 4 = .ok (.aload_n 2, 1) := dk_44 (dk_at dksX10_compare_2_0 4 rfl rfl)
theorem dX10_compare_2_5 : decode cX10_compare_2 5 = .ok (.getfield 7, 3) := dk_180 0 7 (dk_at dksX10_compare_2_0 5 rfl rfl)
theorem dX10_compare_2_8 : decode cX10_compare_2 8 = .ok (.lcmp, 1) := dk_148 (dk_at dksX10_compare_2_0 8 rfl rfl)
theorem dX10_compare_2_9 : decode cX10_compare_2 9 = .ok (.ifCond .eq 17, 3) := dk_153 0 17 (dk_at dksX10_compare_2_0 9 rfl rfl)
theorem dX10_compare_2_12 : decode cX10_compare_2 12 = .ok (.aload_n 2, 1) := dk_44 (dk_at dksX10_compare_2_0 12 rfl rfl)
theorem dX10_compare_2_13 : decode cX10_compare_2 13 = .ok (.getfield 7, 3) := dk_180 0 7 (dk_at dksX10_compare_2_0 13 rfl rfl)
theorem dX10_compare_2_16 : decode cX10_compare_2 16 = .ok (.aload_n 1, 1) := dk_43 (dk_at dksX10_compare_2_0 16 rfl rfl)
theorem dX10_compare_2_17 : decode cX10_compare_2 17 = .ok (.getfield 7, 3) := dk_180 0 7 (dk_at dksX10_compare_2_0 17 rfl rfl)
theorem dX10_compare_2_20 : decode cX10_compare_2 20 = .ok (.invokestatic 13, 3) := dk_184 0 13 (dk_at dksX10_compare_2_0 20 rfl rfl)
theorem dX10_compare_2_23 : decode cX10_compare_2 23 = .ok (.goto 14, 3) := dk_167 0 14 (dk_at dksX10_compare_2_1 0 rfl rfl)
theorem dX10_compare_2_26 : decode cX10_compare_2 26 = .ok (.aload_n 1, 1) := dk_43 (dk_at dksX10_compare_2_1 3 rfl rfl)
theorem dX10_compare_2_27 : decode cX10_compare_2 27 = .ok (.invokevirtual 19, 3) := dk_182 0 19 (dk_at dksX10_compare_2_1 4 rfl rfl)
theorem dX10_compare_2_30 : decode cX10_compare_2 30 = .ok (.aload_n 2, 1) := dk_44 (dk_at dksX10_compare_2_1 7 rfl rfl)
theorem dX10_compare_2_31 : decode cX10_compare_2 31 = .ok (.invokevirtual 19, 3) := dk_182 0 19 (dk_at dksX10_compare_2_1 8 rfl rfl)
theorem dX10_compare_2_34 : decode cX10_compare_2 34 = .ok (.invokevirtual 23, 3) := dk_182 0 23 (dk_at dksX10_compare_2_1 11 rfl rfl)
theorem dX10_compare_2_37 : decode cX10_compare_2 37 = .ok (.ireturn, 1) := dk_172 (dk_at dksX10_compare_2_1 14 rfl rfl)
abbrev cX10_init : ByteArray := prog_3_method_1_code
def yX10_init : MethodName := ⟨RX10, "<init>", "()V"⟩
theorem dX10_init_0 : decode cX10_init 0 = .ok (.aload_n 0, 1) := by decide +kernel
theorem dX10_init_1 : decode cX10_init 1 = .ok (.invokespecial 1, 3) := by decide +kernel
theorem dX10_init_4 : decode cX10_init 4 = .ok (.return_, 1) := by decide +kernel
theorem q78 : (Jvm.Cond.initialized "Trellistag$ByWeight") ∈ lw_all := lw_g (lw_at lw_m1 43 rfl) rfl
theorem q769 : (Jvm.Cond.selects "Trellistag$ByWeight" ({ cls := "java/lang/Object", name := "getClass", desc := "()Ljava/lang/Class;" } : Jvm.MethodName) ({ cls := "java/lang/Object", name := "getClass", desc := "()Ljava/lang/Class;" } : Jvm.MethodName)) ∈ lw_all := lw_g (lw_at lw_m4 14 rfl) rfl
theorem q852 : (Jvm.Cond.castable "Trellistag$ByWeight" "java/util/Comparator") ∈ lw_tbl := lw_at lw_m4 97 rfl
theorem q853 : (Jvm.Cond.selects "Trellistag$ByWeight" ({ cls := "java/util/Comparator", name := "compare", desc := "(Ljava/lang/Object;Ljava/lang/Object;)I" } : Jvm.MethodName) ({ cls := "Trellistag$ByWeight", name := "compare", desc := "(Ljava/lang/Object;Ljava/lang/Object;)I" } : Jvm.MethodName)) ∈ lw_all := lw_g (lw_at lw_m4 98 rfl) rfl
theorem q854 : (Jvm.Cond.unhidden "Trellistag$ByWeight" "compare" "(Ljava/lang/Object;Ljava/lang/Object;)I") ∈ lw_tbl := lw_at lw_m4 99 rfl
theorem q855 : (Jvm.Cond.instanceMethod ({ cls := "Trellistag$ByWeight", name := "compare", desc := "(Ljava/lang/Object;Ljava/lang/Object;)I" } : Jvm.MethodName)) ∈ lw_all := lw_g (lw_at lw_m4 100 rfl) rfl
theorem q856 : (Jvm.Cond.publicMethod ({ cls := "Trellistag$ByWeight", name := "compare", desc := "(Ljava/lang/Object;Ljava/lang/Object;)I" } : Jvm.MethodName)) ∈ lw_tbl := lw_at lw_m4 101 rfl
theorem q857 : (Jvm.Cond.code ({ cls := "Trellistag$ByWeight", name := "compare", desc := "(Ljava/lang/Object;Ljava/lang/Object;)I" } : Jvm.MethodName) prog_3_method_3_code (3 : Nat) (Option.some Jvm.ClassFile.FieldType.int)) ∈ lw_all := lw_g (lw_at lw_m4 102 rfl) rfl
theorem q858 : (Jvm.Cond.classLink "Trellistag$ByWeight" (8 : Nat) "Trellistag$Path") ∈ lw_all := lw_g (lw_at lw_m4 103 rfl) rfl
theorem q859 : (Jvm.Cond.methodLink "Trellistag$ByWeight" (29 : Nat) ({ cls := "Trellistag$ByWeight", name := "compare", desc := "(LTrellistag$Path;LTrellistag$Path;)I" } : Jvm.MethodName)) ∈ lw_all := lw_g (lw_at lw_m4 104 rfl) rfl
theorem q860 : (Jvm.Cond.instanceMethod ({ cls := "Trellistag$ByWeight", name := "compare", desc := "(LTrellistag$Path;LTrellistag$Path;)I" } : Jvm.MethodName)) ∈ lw_all := lw_g (lw_at lw_m4 105 rfl) rfl
theorem q861 : (Jvm.Cond.selects "Trellistag$ByWeight" ({ cls := "Trellistag$ByWeight", name := "compare", desc := "(LTrellistag$Path;LTrellistag$Path;)I" } : Jvm.MethodName) ({ cls := "Trellistag$ByWeight", name := "compare", desc := "(LTrellistag$Path;LTrellistag$Path;)I" } : Jvm.MethodName)) ∈ lw_all := lw_g (lw_at lw_m4 106 rfl) rfl
theorem q862 : (Jvm.Cond.code ({ cls := "Trellistag$ByWeight", name := "compare", desc := "(LTrellistag$Path;LTrellistag$Path;)I" } : Jvm.MethodName) prog_3_method_2_code (3 : Nat) (Option.some Jvm.ClassFile.FieldType.int)) ∈ lw_all := lw_g (lw_at lw_m4 107 rfl) rfl
theorem q863 : (Jvm.Cond.methodLink "Trellistag$ByWeight" (13 : Nat) ({ cls := "java/lang/Long", name := "compare", desc := "(JJ)I" } : Jvm.MethodName)) ∈ lw_all := lw_g (lw_at lw_m4 108 rfl) rfl
theorem q866 : (Jvm.Cond.methodLink "Trellistag$ByWeight" (19 : Nat) ({ cls := "Trellistag$Path", name := "toString", desc := "()Ljava/lang/String;" } : Jvm.MethodName)) ∈ lw_all := lw_g (lw_at lw_m4 111 rfl) rfl
theorem q874 : (Jvm.Cond.methodLink "Trellistag$ByWeight" (23 : Nat) ({ cls := "java/lang/String", name := "compareTo", desc := "(Ljava/lang/String;)I" } : Jvm.MethodName)) ∈ lw_all := lw_g (lw_at lw_m4 119 rfl) rfl
theorem q1321 : (Jvm.Cond.instantiable "Trellistag$ByWeight" (0 : Nat)) ∈ lw_all := lw_g (lw_at lw_m6 86 rfl) rfl
theorem q1323 : (Jvm.Cond.instanceMethod ({ cls := "Trellistag$ByWeight", name := "<init>", desc := "()V" } : Jvm.MethodName)) ∈ lw_all := lw_g (lw_at lw_m6 88 rfl) rfl
theorem q1324 : (Jvm.Cond.code ({ cls := "Trellistag$ByWeight", name := "<init>", desc := "()V" } : Jvm.MethodName) prog_3_method_1_code (1 : Nat) (Option.none : Option Jvm.ClassFile.FieldType)) ∈ lw_all := lw_g (lw_at lw_m6 89 rfl) rfl
theorem q1325 : (Jvm.Cond.methodLink "Trellistag$ByWeight" (1 : Nat) ({ cls := "java/lang/Object", name := "<init>", desc := "()V" } : Jvm.MethodName)) ∈ lw_all := lw_g (lw_at lw_m6 90 rfl) rfl
theorem q1326 : (Jvm.Cond.superclass "Trellistag$ByWeight" "java/lang/Object") ∈ lw_all := lw_g (lw_at lw_m6 91 rfl) rfl
theorem q1366 : (Jvm.Cond.fieldLink "Trellistag$ByWeight" (7 : Nat) "Trellistag$Path" "weight" "J") ∈ lw_all := lw_g (lw_at lw_m6 131 rfl) rfl
theorem q1803 : (Jvm.Cond.castable "Trellistag$ByWeight" "java/lang/Object") ∈ lw_tbl := lw_at lw_m8 88 rfl

/-! Trellistag$Path -/
set_option maxRecDepth 100000
def RX11 : String := "Trellistag$Path"
def TX11 : u_T := fun k => match k with
  | 0 => ("Trellistag$Path", "tags", "[I", true)
  | 1 => ("Trellistag$Path", "weight", "J", true)
  | _ => ("Trellistag$Path", "text", "Ljava/lang/String;", false)
def tyX11 : Nat → FieldType := fun k => match k with
  | 0 => .array .int
  | 1 => .long
  | _ => .object "java/lang/String"
abbrev wsX110 : List Cond := u_ws RX11 TX11 3
theorem nmX11 : ∀ a, a < 3 → ∀ b, b < 3 → a ≠ b → (TX11 a).2.1 ≠ (TX11 b).2.1 := by decide +kernel
theorem tyX11_ok : ∀ k, k < 3 → parseFieldDescriptor (TX11 k).2.2.1 = some (tyX11 k) := by decide +kernel
abbrev cX11_toString : ByteArray := prog_6_method_2_code
def yX11_toString : MethodName := ⟨RX11, "toString", "()Ljava/lang/String;"⟩
def dkwX11_toString_2 : List UInt8 := [87, 132, 4, 1, 167, 255, 230, 42, 43, 182, 0, 28, 181, 0, 17, 42, 180, 0, 17, 176]
abbrev dktX11_toString_2 : List UInt8 := dkwX11_toString_2 ++ []
def dkwX11_toString_1 : List UInt8 := [54, 4, 21, 4, 29, 162, 0, 26, 44, 21, 4, 46, 54, 5, 43, 16, 48, 21, 5, 96, 146, 182, 0, 24]
abbrev dktX11_toString_1 : List UInt8 := dkwX11_toString_1 ++ dktX11_toString_2
def dkwX11_toString_0 : List UInt8 := [42, 180, 0, 17, 199, 0, 59, 187, 0, 21, 89, 183, 0, 23, 76, 42, 180, 0, 7, 77, 44, 190, 62, 3]
abbrev dktX11_toString_0 : List UInt8 := dkwX11_toString_0 ++ dktX11_toString_1
theorem dksX11_toString_0 : cX11_toString.data.toList.drop 0 = dktX11_toString_0 := by decide +kernel
theorem dksX11_toString_1 : cX11_toString.data.toList.drop 24 = dktX11_toString_1 := dk_seg dksX11_toString_0 24 rfl rfl
theorem dksX11_toString_2 : cX11_toString.data.toList.drop 48 = dktX11_toString_2 := dk_seg dksX11_toString_1 24 rfl rfl
theorem dX11_toString_0 : decode cX11_toString 0 = .ok (.aload_n 0, 1) := dk_42 (dk_at dksX11_toString_0 0 rfl rfl)
theorem dX11_toString_1 : decode cX11_toString 1 = .ok (.getfield 17, 3) := dk_180 0 17 (dk_at dksX11_toString_0 1 rfl rfl)
theorem dX11_toString_4 : decode cX11_toString 4 = .ok (.ifnonnull 59, 3) := dk_199 0 59 (dk_at dksX11_toString_0 4 rfl rfl)
theorem dX11_toString_7 : decode cX11_toString 7 = .ok (.new 21, 3) := dk_187 0 21 (dk_at dksX11_toString_0 7 rfl rfl)
theorem dX11_toString_10 : decode cX11_toString 10 = .ok (.dup, 1) := dk_89 (dk_at dksX11_toString_0 10 rfl rfl)
theorem dX11_toString_11 : decode cX11_toString 11 = .ok (.invokespecial 23, 3) := dk_183 0 23 (dk_at dksX11_toString_0 11 rfl rfl)
theorem dX11_toString_14 : decode cX11_toString 14 = .ok (.astore_n 1, 1) := dk_76 (dk_at dksX11_toString_0 14 rfl rfl)
theorem dX11_toString_15 : decode cX11_toString 15 = .ok (.aload_n 0, 1) := dk_42 (dk_at dksX11_toString_0 15 rfl rfl)
theorem dX11_toString_16 : decode cX11_toString 16 = .ok (.getfield 7, 3) := dk_180 0 7 (dk_at dksX11_toString_0 16 rfl rfl)
theorem dX11_toString_19 : decode cX11_toString 19 = .ok (.astore_n 2, 1) := dk_77 (dk_at dksX11_toString_0 19 rfl rfl)
theorem dX11_toString_20 : decode cX11_toString 20 = .ok (.aload_n 2, 1) := dk_44 (dk_at dksX11_toString_0 20 rfl rfl)
theorem dX11_toString_21 : decode cX11_toString 21 = .ok (.arraylength, 1) := dk_190 (dk_at dksX11_toString_0 21 rfl rfl)
theorem dX11_toString_22 : decode cX11_toString 22 = .ok (.istore_n 3, 1) := dk_62 (dk_at dksX11_toString_0 22 rfl rfl)
theorem dX11_toString_23 : decode cX11_toString 23 = .ok (.iconst 0, 1) := dk_3 (dk_at dksX11_toString_0 23 rfl rfl)
theorem dX11_toString_24 : decode cX11_toString 24 = .ok (.istore 4, 2) := dk_54 4 (dk_at dksX11_toString_1 0 rfl rfl)
theorem dX11_toString_26 : decode cX11_toString 26 = .ok (.iload 4, 2) := dk_21 4 (dk_at dksX11_toString_1 2 rfl rfl)
theorem dX11_toString_28 : decode cX11_toString 28 = .ok (.iload_n 3, 1) := dk_29 (dk_at dksX11_toString_1 4 rfl rfl)
theorem dX11_toString_29 : decode cX11_toString 29 = .ok (.if_icmp .ge 26, 3) := dk_162 0 26 (dk_at dksX11_toString_1 5 rfl rfl)
theorem dX11_toString_32 : decode cX11_toString 32 = .ok (.aload_n 2, 1) := dk_44 (dk_at dksX11_toString_1 8 rfl rfl)
theorem dX11_toString_33 : decode cX11_toString 33 = .ok (.iload 4, 2) := dk_21 4 (dk_at dksX11_toString_1 9 rfl rfl)
theorem dX11_toString_35 : decode cX11_toString 35 = .ok (.iaload, 1) := dk_46 (dk_at dksX11_toString_1 11 rfl rfl)
theorem dX11_toString_36 : decode cX11_toString 36 = .ok (.istore 5, 2) := dk_54 5 (dk_at dksX11_toString_1 12 rfl rfl)
theorem dX11_toString_38 : decode cX11_toString 38 = .ok (.aload_n 1, 1) := dk_43 (dk_at dksX11_toString_1 14 rfl rfl)
theorem dX11_toString_39 : decode cX11_toString 39 = .ok (.bipush 48, 2) := dk_16 48 (dk_at dksX11_toString_1 15 rfl rfl)
theorem dX11_toString_41 : decode cX11_toString 41 = .ok (.iload 5, 2) := dk_21 5 (dk_at dksX11_toString_1 17 rfl rfl)
theorem dX11_toString_43 : decode cX11_toString 43 = .ok (.iadd, 1) := dk_96 (dk_at dksX11_toString_1 19 rfl rfl)
theorem dX11_toString_44 : decode cX11_toString 44 = .ok (.i2c, 1) := dk_146 (dk_at dksX11_toString_1 20 rfl rfl)
theorem dX11_toString_45 : decode cX11_toString 45 = .ok (.invokevirtual 24, 3) := dk_182 0 24 (dk_at dksX11_toString_1 21 rfl rfl)
theorem dX11_toString_48 : decode cX11_toString 48 = .ok (.pop, 1) := dk_87 (dk_at dksX11_toString_2 0 rfl rfl)
theorem dX11_toString_49 : decode cX11_toString 49 = .ok (.iinc 4 1, 3) := dk_132 4 1 (dk_at dksX11_toString_2 1 rfl rfl)
theorem dX11_toString_52 : decode cX11_toString 52 = .ok (.goto (-26), 3) := dk_167 255 230 (dk_at dksX11_toString_2 4 rfl rfl)
theorem dX11_toString_55 : decode cX11_toString 55 = .ok (.aload_n 0, 1) := dk_42 (dk_at dksX11_toString_2 7 rfl rfl)
theorem dX11_toString_56 : decode cX11_toString 56 = .ok (.aload_n 1, 1) := dk_43 (dk_at dksX11_toString_2 8 rfl rfl)
theorem dX11_toString_57 : decode cX11_toString 57 = .ok (.invokevirtual 28, 3) := dk_182 0 28 (dk_at dksX11_toString_2 9 rfl rfl)
theorem dX11_toString_60 : decode cX11_toString 60 = .ok (.putfield 17, 3) := dk_181 0 17 (dk_at dksX11_toString_2 12 rfl rfl)
theorem dX11_toString_63 : decode cX11_toString 63 = .ok (.aload_n 0, 1) := dk_42 (dk_at dksX11_toString_2 15 rfl rfl)
theorem dX11_toString_64 : decode cX11_toString 64 = .ok (.getfield 17, 3) := dk_180 0 17 (dk_at dksX11_toString_2 16 rfl rfl)
theorem dX11_toString_67 : decode cX11_toString 67 = .ok (.areturn, 1) := dk_176 (dk_at dksX11_toString_2 19 rfl rfl)
abbrev cX11_init : ByteArray := prog_6_method_1_code
def yX11_init : MethodName := ⟨RX11, "<init>", "([IJ)V"⟩
def dkwX11_init_0 : List UInt8 := [42, 183, 0, 1, 42, 43, 181, 0, 7, 42, 32, 181, 0, 13, 177]
abbrev dktX11_init_0 : List UInt8 := dkwX11_init_0 ++ []
theorem dksX11_init_0 : cX11_init.data.toList.drop 0 = dktX11_init_0 := by decide +kernel
theorem dX11_init_0 : decode cX11_init 0 = .ok (.aload_n 0, 1) := dk_42 (dk_at dksX11_init_0 0 rfl rfl)
theorem dX11_init_1 : decode cX11_init 1 = .ok (.invokespecial 1, 3) := dk_183 0 1 (dk_at dksX11_init_0 1 rfl rfl)
theorem dX11_init_4 : decode cX11_init 4 = .ok (.aload_n 0, 1) := dk_42 (dk_at dksX11_init_0 4 rfl rfl)
theorem dX11_init_5 : decode cX11_init 5 = .ok (.aload_n 1, 1) := dk_43 (dk_at dksX11_init_0 5 rfl rfl)
theorem dX11_init_6 : decode cX11_init 6 = .ok (.putfield 7, 3) := dk_181 0 7 (dk_at dksX11_init_0 6 rfl rfl)
theorem dX11_init_9 : decode cX11_init 9 = .ok (.aload_n 0, 1) := dk_42 (dk_at dksX11_init_0 9 rfl rfl)
theorem dX11_init_10 : decode cX11_init 10 = .ok (.lload_n 2, 1) := dk_32 (dk_at dksX11_init_0 10 rfl rfl)
theorem dX11_init_11 : decode cX11_init 11 = .ok (.putfield 13, 3) := dk_181 0 13 (dk_at dksX11_init_0 11 rfl rfl)
theorem dX11_init_14 : decode cX11_init 14 = .ok (.return_, 1) := dk_177 (dk_at dksX11_init_0 14 rfl rfl)
theorem q79 : (Jvm.Cond.initialized "Trellistag$Path") ∈ lw_all := lw_g (lw_at lw_m1 44 rfl) rfl
theorem q771 : (Jvm.Cond.selects "Trellistag$Path" ({ cls := "java/lang/Object", name := "getClass", desc := "()Ljava/lang/Class;" } : Jvm.MethodName) ({ cls := "java/lang/Object", name := "getClass", desc := "()Ljava/lang/Class;" } : Jvm.MethodName)) ∈ lw_all := lw_g (lw_at lw_m4 16 rfl) rfl
theorem q867 : (Jvm.Cond.instanceMethod ({ cls := "Trellistag$Path", name := "toString", desc := "()Ljava/lang/String;" } : Jvm.MethodName)) ∈ lw_all := lw_g (lw_at lw_m4 112 rfl) rfl
theorem q868 : (Jvm.Cond.selects "Trellistag$Path" ({ cls := "Trellistag$Path", name := "toString", desc := "()Ljava/lang/String;" } : Jvm.MethodName) ({ cls := "Trellistag$Path", name := "toString", desc := "()Ljava/lang/String;" } : Jvm.MethodName)) ∈ lw_all := lw_g (lw_at lw_m4 113 rfl) rfl
theorem q869 : (Jvm.Cond.code ({ cls := "Trellistag$Path", name := "toString", desc := "()Ljava/lang/String;" } : Jvm.MethodName) prog_6_method_2_code (6 : Nat) (Option.some (Jvm.ClassFile.FieldType.object "java/lang/String"))) ∈ lw_all := lw_g (lw_at lw_m4 114 rfl) rfl
theorem q870 : (Jvm.Cond.classLink "Trellistag$Path" (21 : Nat) "java/lang/StringBuilder") ∈ lw_all := lw_g (lw_at lw_m4 115 rfl) rfl
theorem q871 : (Jvm.Cond.methodLink "Trellistag$Path" (23 : Nat) ({ cls := "java/lang/StringBuilder", name := "<init>", desc := "()V" } : Jvm.MethodName)) ∈ lw_all := lw_g (lw_at lw_m4 116 rfl) rfl
theorem q872 : (Jvm.Cond.methodLink "Trellistag$Path" (24 : Nat) ({ cls := "java/lang/StringBuilder", name := "append", desc := "(C)Ljava/lang/StringBuilder;" } : Jvm.MethodName)) ∈ lw_all := lw_g (lw_at lw_m4 117 rfl) rfl
theorem q873 : (Jvm.Cond.methodLink "Trellistag$Path" (28 : Nat) ({ cls := "java/lang/StringBuilder", name := "toString", desc := "()Ljava/lang/String;" } : Jvm.MethodName)) ∈ lw_all := lw_g (lw_at lw_m4 118 rfl) rfl
theorem q1357 : (Jvm.Cond.instantiable "Trellistag$Path" (3 : Nat)) ∈ lw_all := lw_g (lw_at lw_m6 122 rfl) rfl
theorem q1359 : (Jvm.Cond.instanceMethod ({ cls := "Trellistag$Path", name := "<init>", desc := "([IJ)V" } : Jvm.MethodName)) ∈ lw_all := lw_g (lw_at lw_m6 124 rfl) rfl
theorem q1360 : (Jvm.Cond.code ({ cls := "Trellistag$Path", name := "<init>", desc := "([IJ)V" } : Jvm.MethodName) prog_6_method_1_code (4 : Nat) (Option.none : Option Jvm.ClassFile.FieldType)) ∈ lw_all := lw_g (lw_at lw_m6 125 rfl) rfl
theorem q1361 : (Jvm.Cond.methodLink "Trellistag$Path" (1 : Nat) ({ cls := "java/lang/Object", name := "<init>", desc := "()V" } : Jvm.MethodName)) ∈ lw_all := lw_g (lw_at lw_m6 126 rfl) rfl
theorem q1362 : (Jvm.Cond.fieldLink "Trellistag$Path" (7 : Nat) "Trellistag$Path" "tags" "[I") ∈ lw_all := lw_g (lw_at lw_m6 127 rfl) rfl
theorem q1365 : (Jvm.Cond.fieldLink "Trellistag$Path" (13 : Nat) "Trellistag$Path" "weight" "J") ∈ lw_all := lw_g (lw_at lw_m6 130 rfl) rfl
theorem q1370 : (Jvm.Cond.fieldLink "Trellistag$Path" (17 : Nat) "Trellistag$Path" "text" "Ljava/lang/String;") ∈ lw_all := lw_g (lw_at lw_m6 135 rfl) rfl
theorem q1371 : (Jvm.Cond.laysFinal "Trellistag$Path" "Trellistag$Path" "tags" "[I") ∈ lw_all := lw_g (lw_at lw_m6 136 rfl) rfl
theorem q1372 : (Jvm.Cond.soleField "Trellistag$Path" "tags") ∈ lw_all := lw_g (lw_at lw_m6 137 rfl) rfl
theorem q1373 : (Jvm.Cond.laysFinal "Trellistag$Path" "Trellistag$Path" "weight" "J") ∈ lw_all := lw_g (lw_at lw_m6 138 rfl) rfl
theorem q1374 : (Jvm.Cond.soleField "Trellistag$Path" "weight") ∈ lw_all := lw_g (lw_at lw_m6 139 rfl) rfl
theorem q1375 : (Jvm.Cond.lays "Trellistag$Path" "Trellistag$Path" "text" "Ljava/lang/String;") ∈ lw_all := lw_g (lw_at lw_m6 140 rfl) rfl
theorem q1376 : (Jvm.Cond.soleField "Trellistag$Path" "text") ∈ lw_all := lw_g (lw_at lw_m6 141 rfl) rfl
theorem q1377 : (Jvm.Cond.superclass "Trellistag$Path" "java/lang/Object") ∈ lw_all := lw_g (lw_at lw_m6 142 rfl) rfl
theorem q1804 : (Jvm.Cond.castable "Trellistag$Path" "java/lang/Object") ∈ lw_tbl := lw_at lw_m8 89 rfl
theorem in_X11 : ∀ w ∈ wsX110, w ∈ lw_all := lw_in wsX110 [1371, 1373, 1375] (by decide +kernel) (by decide +kernel)

/-! Trellistag$All -/
set_option maxRecDepth 100000
def RX12 : String := "Trellistag$All"
def TX12 : u_T := fun k => match k with
  | 0 => ("Trellistag$All", "trellis", "LTrellistag$Trellis;", true)
  | 1 => ("Trellistag$All", "tags", "[I", true)
  | 2 => ("Trellistag$All", "best", "Ljava/util/List;", true)
  | 3 => ("Trellistag$All", "place", "I", true)
  | _ => ("Trellistag$All", "sums", "[J", true)
def tyX12 : Nat → FieldType := fun k => match k with
  | 0 => .object "Trellistag$Trellis"
  | 1 => .array .int
  | 2 => .object "java/util/List"
  | 3 => .int
  | _ => .array .long
abbrev wsX120 : List Cond := u_ws RX12 TX12 5
theorem nmX12 : ∀ a, a < 5 → ∀ b, b < 5 → a ≠ b → (TX12 a).2.1 ≠ (TX12 b).2.1 := by decide +kernel
theorem tyX12_ok : ∀ k, k < 5 → parseFieldDescriptor (TX12 k).2.2.1 = some (tyX12 k) := by decide +kernel
abbrev cX12_init : ByteArray := prog_2_method_1_code
def yX12_init : MethodName := ⟨RX12, "<init>", "(LTrellistag$Trellis;I)V"⟩
def dkwX12_init_1 : List UInt8 := [181, 0, 22, 42, 28, 181, 0, 26, 42, 43, 180, 0, 30, 188, 10, 181, 0, 35, 177]
abbrev dktX12_init_1 : List UInt8 := dkwX12_init_1 ++ []
def dkwX12_init_0 : List UInt8 := [42, 183, 0, 3, 42, 187, 0, 9, 89, 183, 0, 11, 181, 0, 12, 42, 8, 188, 11, 181, 0, 18, 42, 43]
abbrev dktX12_init_0 : List UInt8 := dkwX12_init_0 ++ dktX12_init_1
theorem dksX12_init_0 : cX12_init.data.toList.drop 0 = dktX12_init_0 := by decide +kernel
theorem dksX12_init_1 : cX12_init.data.toList.drop 24 = dktX12_init_1 := dk_seg dksX12_init_0 24 rfl rfl
theorem dX12_init_0 : decode cX12_init 0 = .ok (.aload_n 0, 1) := dk_42 (dk_at dksX12_init_0 0 rfl rfl)
theorem dX12_init_1 : decode cX12_init 1 = .ok (.invokespecial 3, 3) := dk_183 0 3 (dk_at dksX12_init_0 1 rfl rfl)
theorem dX12_init_4 : decode cX12_init 4 = .ok (.aload_n 0, 1) := dk_42 (dk_at dksX12_init_0 4 rfl rfl)
theorem dX12_init_5 : decode cX12_init 5 = .ok (.new 9, 3) := dk_187 0 9 (dk_at dksX12_init_0 5 rfl rfl)
theorem dX12_init_8 : decode cX12_init 8 = .ok (.dup, 1) := dk_89 (dk_at dksX12_init_0 8 rfl rfl)
theorem dX12_init_9 : decode cX12_init 9 = .ok (.invokespecial 11, 3) := dk_183 0 11 (dk_at dksX12_init_0 9 rfl rfl)
theorem dX12_init_12 : decode cX12_init 12 = .ok (.putfield 12, 3) := dk_181 0 12 (dk_at dksX12_init_0 12 rfl rfl)
theorem dX12_init_15 : decode cX12_init 15 = .ok (.aload_n 0, 1) := dk_42 (dk_at dksX12_init_0 15 rfl rfl)
theorem dX12_init_16 : decode cX12_init 16 = .ok (.iconst 5, 1) := dk_8 (dk_at dksX12_init_0 16 rfl rfl)
theorem dX12_init_17 : decode cX12_init 17 = .ok (.newarray .long, 2) := dk_188_11 (dk_at dksX12_init_0 17 rfl rfl)
theorem dX12_init_19 : decode cX12_init 19 = .ok (.putfield 18, 3) := dk_181 0 18 (dk_at dksX12_init_0 19 rfl rfl)
theorem dX12_init_22 : decode cX12_init 22 = .ok (.aload_n 0, 1) := dk_42 (dk_at dksX12_init_0 22 rfl rfl)
theorem dX12_init_23 : decode cX12_init 23 = .ok (.aload_n 1, 1) := dk_43 (dk_at dksX12_init_0 23 rfl rfl)
theorem dX12_init_24 : decode cX12_init 24 = .ok (.putfield 22, 3) := dk_181 0 22 (dk_at dksX12_init_1 0 rfl rfl)
theorem dX12_init_27 : decode cX12_init 27 = .ok (.aload_n 0, 1) := dk_42 (dk_at dksX12_init_1 3 rfl rfl)
theorem dX12_init_28 : decode cX12_init 28 = .ok (.iload_n 2, 1) := dk_28 (dk_at dksX12_init_1 4 rfl rfl)
theorem dX12_init_29 : decode cX12_init 29 = .ok (.putfield 26, 3) := dk_181 0 26 (dk_at dksX12_init_1 5 rfl rfl)
theorem dX12_init_32 : decode cX12_init 32 = .ok (.aload_n 0, 1) := dk_42 (dk_at dksX12_init_1 8 rfl rfl)
theorem dX12_init_33 : decode cX12_init 33 = .ok (.aload_n 1, 1) := dk_43 (dk_at dksX12_init_1 9 rfl rfl)
theorem dX12_init_34 : decode cX12_init 34 = .ok (.getfield 30, 3) := dk_180 0 30 (dk_at dksX12_init_1 10 rfl rfl)
theorem dX12_init_37 : decode cX12_init 37 = .ok (.newarray .int, 2) := dk_188_10 (dk_at dksX12_init_1 13 rfl rfl)
theorem dX12_init_39 : decode cX12_init 39 = .ok (.putfield 35, 3) := dk_181 0 35 (dk_at dksX12_init_1 15 rfl rfl)
theorem dX12_init_42 : decode cX12_init 42 = .ok (.return_, 1) := dk_177 (dk_at dksX12_init_1 18 rfl rfl)
abbrev cX12_goOn : ByteArray := prog_2_method_2_code
def yX12_goOn : MethodName := ⟨RX12, "goOn", "(IJ)V"⟩
def dkwX12_goOn_4 : List UInt8 := [96, 22, 5, 182, 0, 47, 132, 4, 1, 167, 255, 193, 177]
abbrev dktX12_goOn_4 : List UInt8 := dkwX12_goOn_4 ++ []
def dkwX12_goOn_3 : List UInt8 := [182, 0, 43, 105, 55, 5, 22, 5, 9, 148, 158, 0, 20, 42, 180, 0, 35, 27, 21, 4, 79, 42, 27, 4]
abbrev dktX12_goOn_3 : List UInt8 := dkwX12_goOn_3 ++ dktX12_goOn_4
def dkwX12_goOn_2 : List UInt8 := [180, 0, 22, 27, 27, 154, 0, 7, 2, 167, 0, 11, 42, 180, 0, 35, 27, 4, 100, 46, 21, 4]
abbrev dktX12_goOn_2 : List UInt8 := dkwX12_goOn_2 ++ dktX12_goOn_3
def dkwX12_goOn_1 : List UInt8 := [92, 47, 32, 97, 80, 42, 32, 182, 0, 39, 177, 3, 54, 4, 21, 4, 8, 162, 0, 63, 32, 42]
abbrev dktX12_goOn_1 : List UInt8 := dkwX12_goOn_1 ++ dktX12_goOn_2
def dkwX12_goOn_0 : List UInt8 := [27, 42, 180, 0, 22, 180, 0, 30, 160, 0, 27, 42, 180, 0, 18, 42, 180, 0, 35, 42, 180, 0, 26, 46]
abbrev dktX12_goOn_0 : List UInt8 := dkwX12_goOn_0 ++ dktX12_goOn_1
theorem dksX12_goOn_0 : cX12_goOn.data.toList.drop 0 = dktX12_goOn_0 := by decide +kernel
theorem dksX12_goOn_1 : cX12_goOn.data.toList.drop 24 = dktX12_goOn_1 := dk_seg dksX12_goOn_0 24 rfl rfl
theorem dksX12_goOn_2 : cX12_goOn.data.toList.drop 46 = dktX12_goOn_2 := dk_seg dksX12_goOn_1 22 rfl rfl
theorem dksX12_goOn_3 : cX12_goOn.data.toList.drop 68 = dktX12_goOn_3 := dk_seg dksX12_goOn_2 22 rfl rfl
theorem dksX12_goOn_4 : cX12_goOn.data.toList.drop 92 = dktX12_goOn_4 := dk_seg dksX12_goOn_3 24 rfl rfl
theorem dX12_goOn_0 : decode cX12_goOn 0 = .ok (.iload_n 1, 1) := dk_27 (dk_at dksX12_goOn_0 0 rfl rfl)
theorem dX12_goOn_1 : decode cX12_goOn 1 = .ok (.aload_n 0, 1) := dk_42 (dk_at dksX12_goOn_0 1 rfl rfl)
theorem dX12_goOn_2 : decode cX12_goOn 2 = .ok (.getfield 22, 3) := dk_180 0 22 (dk_at dksX12_goOn_0 2 rfl rfl)
theorem dX12_goOn_5 : decode cX12_goOn 5 = .ok (.getfield 30, 3) := dk_180 0 30 (dk_at dksX12_goOn_0 5 rfl rfl)
theorem dX12_goOn_8 : decode cX12_goOn 8 = .ok (.if_icmp .ne 27, 3) := dk_160 0 27 (dk_at dksX12_goOn_0 8 rfl rfl)
theorem dX12_goOn_11 : decode cX12_goOn 11 = .ok (.aload_n 0, 1) := dk_42 (dk_at dksX12_goOn_0 11 rfl rfl)
theorem dX12_goOn_12 : decode cX12_goOn 12 = .ok (.getfield 18, 3) := dk_180 0 18 (dk_at dksX12_goOn_0 12 rfl rfl)
theorem dX12_goOn_15 : decode cX12_goOn 15 = .ok (.aload_n 0, 1) := dk_42 (dk_at dksX12_goOn_0 15 rfl rfl)
theorem dX12_goOn_16 : decode cX12_goOn 16 = .ok (.getfield 35, 3) := dk_180 0 35 (dk_at dksX12_goOn_0 16 rfl rfl)
theorem dX12_goOn_19 : decode cX12_goOn 19 = .ok (.aload_n 0, 1) := dk_42 (dk_at dksX12_goOn_0 19 rfl rfl)
theorem dX12_goOn_20 : decode cX12_goOn 20 = .ok (.getfield 26, 3) := dk_180 0 26 (dk_at dksX12_goOn_0 20 rfl rfl)
theorem dX12_goOn_23 : decode cX12_goOn 23 = .ok (.iaload, 1) := dk_46 (dk_at dksX12_goOn_0 23 rfl rfl)
theorem dX12_goOn_24 : decode cX12_goOn 24 = .ok (.dup2, 1) := dk_92 (dk_at dksX12_goOn_1 0 rfl rfl)
theorem dX12_goOn_25 : decode cX12_goOn 25 = .ok (.laload, 1) := dk_47 (dk_at dksX12_goOn_1 1 rfl rfl)
theorem dX12_goOn_26 : decode cX12_goOn 26 = .ok (.lload_n 2, 1) := dk_32 (dk_at dksX12_goOn_1 2 rfl rfl)
theorem dX12_goOn_27 : decode cX12_goOn 27 = .ok (.ladd, 1) := dk_97 (dk_at dksX12_goOn_1 3 rfl rfl)
theorem dX12_goOn_28 : decode cX12_goOn 28 = .ok (.lastore, 1) := dk_80 (dk_at dksX12_goOn_1 4 rfl rfl)
theorem dX12_goOn_29 : decode cX12_goOn 29 = .ok (.aload_n 0, 1) := dk_42 (dk_at dksX12_goOn_1 5 rfl rfl)
theorem dX12_goOn_30 : decode cX12_goOn 30 = .ok (.lload_n 2, 1) := dk_32 (dk_at dksX12_goOn_1 6 rfl rfl)
theorem dX12_goOn_31 : decode cX12_goOn 31 = .ok (.invokevirtual 39, 3) := dk_182 0 39 (dk_at dksX12_goOn_1 7 rfl rfl)
theorem dX12_goOn_34 : decode cX12_goOn 34 = .ok (.return_, 1) := dk_177 (dk_at dksX12_goOn_1 10 rfl rfl)
theorem dX12_goOn_35 : decode cX12_goOn 35 = .ok (.iconst 0, 1) := dk_3 (dk_at dksX12_goOn_1 11 rfl rfl)
theorem dX12_goOn_36 : decode cX12_goOn 36 = .ok (.istore 4, 2) := dk_54 4 (dk_at dksX12_goOn_1 12 rfl rfl)
theorem dX12_goOn_38 : decode cX12_goOn 38 = .ok (.iload 4, 2) := dk_21 4 (dk_at dksX12_goOn_1 14 rfl rfl)
theorem dX12_goOn_40 : decode cX12_goOn 40 = .ok (.iconst 5, 1) := dk_8 (dk_at dksX12_goOn_1 16 rfl rfl)
theorem dX12_goOn_41 : decode cX12_goOn 41 = .ok (.if_icmp .ge 63, 3) := dk_162 0 63 (dk_at dksX12_goOn_1 17 rfl rfl)
theorem dX12_goOn_44 : decode cX12_goOn 44 = .ok (.lload_n 2, 1) := dk_32 (dk_at dksX12_goOn_1 20 rfl rfl)
theorem dX12_goOn_45 : decode cX12_goOn 45 = .ok (.aload_n 0, 1) := dk_42 (dk_at dksX12_goOn_1 21 rfl rfl)
theorem dX12_goOn_46 : decode cX12_goOn 46 = .ok (.getfield 22, 3) := dk_180 0 22 (dk_at dksX12_goOn_2 0 rfl rfl)
theorem dX12_goOn_49 : decode cX12_goOn 49 = .ok (.iload_n 1, 1) := dk_27 (dk_at dksX12_goOn_2 3 rfl rfl)
theorem dX12_goOn_50 : decode cX12_goOn 50 = .ok (.iload_n 1, 1) := dk_27 (dk_at dksX12_goOn_2 4 rfl rfl)
theorem dX12_goOn_51 : decode cX12_goOn 51 = .ok (.ifCond .ne 7, 3) := dk_154 0 7 (dk_at dksX12_goOn_2 5 rfl rfl)
theorem dX12_goOn_54 : decode cX12_goOn 54 = .ok (.iconst (-1), 1) := dk_2 (dk_at dksX12_goOn_2 8 rfl rfl)
theorem dX12_goOn_55 : decode cX12_goOn 55 = .ok (.goto 11, 3) := dk_167 0 11 (dk_at dksX12_goOn_2 9 rfl rfl)
theorem dX12_goOn_58 : decode cX12_goOn 58 = .ok (.aload_n 0, 1) := dk_42 (dk_at dksX12_goOn_2 12 rfl rfl)
theorem dX12_goOn_59 : decode cX12_goOn 59 = .ok (.getfield 35, 3) := dk_180 0 35 (dk_at dksX12_goOn_2 13 rfl rfl)
theorem dX12_goOn_62 : decode cX12_goOn 62 = .ok (.iload_n 1, 1) := dk_27 (dk_at dksX12_goOn_2 16 rfl rfl)
theorem dX12_goOn_63 : decode cX12_goOn 63 = .ok (.iconst 1, 1) := dk_4 (dk_at dksX12_goOn_2 17 rfl rfl)
theorem dX12_goOn_64 : decode cX12_goOn 64 = .ok (.isub, 1) := dk_100 (dk_at dksX12_goOn_2 18 rfl rfl)
theorem dX12_goOn_65 : decode cX12_goOn 65 = .ok (.iaload, 1) := dk_46 (dk_at dksX12_goOn_2 19 rfl rfl)
theorem dX12_goOn_66 : decode cX12_goOn 66 = .ok (.iload 4, 2) := dk_21 4 (dk_at dksX12_goOn_2 20 rfl rfl)
theorem dX12_goOn_68 : decode cX12_goOn 68 = .ok (.invokevirtual 43, 3) := dk_182 0 43 (dk_at dksX12_goOn_3 0 rfl rfl)
theorem dX12_goOn_71 : decode cX12_goOn 71 = .ok (.lmul, 1) := dk_105 (dk_at dksX12_goOn_3 3 rfl rfl)
theorem dX12_goOn_72 : decode cX12_goOn 72 = .ok (.lstore 5, 2) := dk_55 5 (dk_at dksX12_goOn_3 4 rfl rfl)
theorem dX12_goOn_74 : decode cX12_goOn 74 = .ok (.lload 5, 2) := dk_22 5 (dk_at dksX12_goOn_3 6 rfl rfl)
theorem dX12_goOn_76 : decode cX12_goOn 76 = .ok (.lconst 0, 1) := dk_9 (dk_at dksX12_goOn_3 8 rfl rfl)
theorem dX12_goOn_77 : decode cX12_goOn 77 = .ok (.lcmp, 1) := dk_148 (dk_at dksX12_goOn_3 9 rfl rfl)
theorem dX12_goOn_78 : decode cX12_goOn 78 = .ok (.ifCond .le 20, 3) := dk_158 0 20 (dk_at dksX12_goOn_3 10 rfl rfl)
theorem dX12_goOn_81 : decode cX12_goOn 81 = .ok (.aload_n 0, 1) := dk_42 (dk_at dksX12_goOn_3 13 rfl rfl)
theorem dX12_goOn_82 : decode cX12_goOn 82 = .ok (.getfield 35, 3) := dk_180 0 35 (dk_at dksX12_goOn_3 14 rfl rfl)
theorem dX12_goOn_85 : decode cX12_goOn 85 = .ok (.iload_n 1, 1) := dk_27 (dk_at dksX12_goOn_3 17 rfl rfl)
theorem dX12_goOn_86 : decode cX12_goOn 86 = .ok (.iload 4, 2) := dk_21 4 (dk_at dksX12_goOn_3 18 rfl rfl)
theorem dX12_goOn_88 : decode cX12_goOn 88 = .ok (.iastore, 1) := dk_79 (dk_at dksX12_goOn_3 20 rfl rfl)
theorem dX12_goOn_89 : decode cX12_goOn 89 = .ok (.aload_n 0, 1) := dk_42 (dk_at dksX12_goOn_3 21 rfl rfl)
theorem dX12_goOn_90 : decode cX12_goOn 90 = .ok (.iload_n 1, 1) := dk_27 (dk_at dksX12_goOn_3 22 rfl rfl)
theorem dX12_goOn_91 : decode cX12_goOn 91 = .ok (.iconst 1, 1) := dk_4 (dk_at dksX12_goOn_3 23 rfl rfl)
theorem dX12_goOn_92 : decode cX12_goOn 92 = .ok (.iadd, 1) := dk_96 (dk_at dksX12_goOn_4 0 rfl rfl)
theorem dX12_goOn_93 : decode cX12_goOn 93 = .ok (.lload 5, 2) := dk_22 5 (dk_at dksX12_goOn_4 1 rfl rfl)
theorem dX12_goOn_95 : decode cX12_goOn 95 = .ok (.invokevirtual 47, 3) := dk_182 0 47 (dk_at dksX12_goOn_4 3 rfl rfl)
theorem dX12_goOn_98 : decode cX12_goOn 98 = .ok (.iinc 4 1, 3) := dk_132 4 1 (dk_at dksX12_goOn_4 6 rfl rfl)
theorem dX12_goOn_101 : decode cX12_goOn 101 = .ok (.goto (-63), 3) := dk_167 255 193 (dk_at dksX12_goOn_4 9 rfl rfl)
theorem dX12_goOn_104 : decode cX12_goOn 104 = .ok (.return_, 1) := dk_177 (dk_at dksX12_goOn_4 12 rfl rfl)
abbrev cX12_keep : ByteArray := prog_2_method_3_code
def yX12_keep : MethodName := ⟨RX12, "keep", "(J)V"⟩
def dkwX12_keep_5 : List UInt8 := [16, 10, 185, 0, 79, 2, 0, 87, 177]
abbrev dktX12_keep_5 : List UInt8 := dkwX12_keep_5 ++ []
def dkwX12_keep_4 : List UInt8 := [185, 0, 75, 3, 0, 42, 180, 0, 12, 185, 0, 51, 1, 0, 16, 10, 164, 0, 15, 42, 180, 0, 12]
abbrev dktX12_keep_4 : List UInt8 := dkwX12_keep_4 ++ dktX12_keep_5
def dkwX12_keep_3 : List UInt8 := [180, 0, 35, 190, 184, 0, 66, 42, 180, 0, 12, 29, 187, 0, 60, 89, 25, 4, 31, 183, 0, 72]
abbrev dktX12_keep_3 : List UInt8 := dkwX12_keep_3 ++ dktX12_keep_4
def dkwX12_keep_2 : List UInt8 := [16, 10, 162, 0, 48, 42, 180, 0, 35, 190, 188, 10, 58, 4, 42, 180, 0, 35, 3, 25, 4, 3, 42]
abbrev dktX12_keep_2 : List UInt8 := dkwX12_keep_2 ++ dktX12_keep_3
def dkwX12_keep_1 : List UInt8 := [185, 0, 56, 2, 0, 192, 0, 60, 180, 0, 62, 31, 148, 156, 0, 9, 132, 3, 255, 167, 255, 226, 29]
abbrev dktX12_keep_1 : List UInt8 := dkwX12_keep_1 ++ dktX12_keep_2
def dkwX12_keep_0 : List UInt8 := [42, 180, 0, 12, 185, 0, 51, 1, 0, 62, 29, 158, 0, 32, 42, 180, 0, 12, 29, 4, 100]
abbrev dktX12_keep_0 : List UInt8 := dkwX12_keep_0 ++ dktX12_keep_1
theorem dksX12_keep_0 : cX12_keep.data.toList.drop 0 = dktX12_keep_0 := by decide +kernel
theorem dksX12_keep_1 : cX12_keep.data.toList.drop 21 = dktX12_keep_1 := dk_seg dksX12_keep_0 21 rfl rfl
theorem dksX12_keep_2 : cX12_keep.data.toList.drop 44 = dktX12_keep_2 := dk_seg dksX12_keep_1 23 rfl rfl
theorem dksX12_keep_3 : cX12_keep.data.toList.drop 67 = dktX12_keep_3 := dk_seg dksX12_keep_2 23 rfl rfl
theorem dksX12_keep_4 : cX12_keep.data.toList.drop 89 = dktX12_keep_4 := dk_seg dksX12_keep_3 22 rfl rfl
theorem dksX12_keep_5 : cX12_keep.data.toList.drop 112 = dktX12_keep_5 := dk_seg dksX12_keep_4 23 rfl rfl
theorem dX12_keep_0 : decode cX12_keep 0 = .ok (.aload_n 0, 1) := dk_42 (dk_at dksX12_keep_0 0 rfl rfl)
theorem dX12_keep_1 : decode cX12_keep 1 = .ok (.getfield 12, 3) := dk_180 0 12 (dk_at dksX12_keep_0 1 rfl rfl)
theorem dX12_keep_4 : decode cX12_keep 4 = .ok (.invokeinterface 51 1, 5) := by decide +kernel
theorem dX12_keep_9 : decode cX12_keep 9 = .ok (.istore_n 3, 1) := dk_62 (dk_at dksX12_keep_0 9 rfl rfl)
theorem dX12_keep_10 : decode cX12_keep 10 = .ok (.iload_n 3, 1) := dk_29 (dk_at dksX12_keep_0 10 rfl rfl)
theorem dX12_keep_11 : decode cX12_keep 11 = .ok (.ifCond .le 32, 3) := dk_158 0 32 (dk_at dksX12_keep_0 11 rfl rfl)
theorem dX12_keep_14 : decode cX12_keep 14 = .ok (.aload_n 0, 1) := dk_42 (dk_at dksX12_keep_0 14 rfl rfl)
theorem dX12_keep_15 : decode cX12_keep 15 = .ok (.getfield 12, 3) := dk_180 0 12 (dk_at dksX12_keep_0 15 rfl rfl)
theorem dX12_keep_18 : decode cX12_keep 18 = .ok (.iload_n 3, 1) := dk_29 (dk_at dksX12_keep_0 18 rfl rfl)
theorem dX12_keep_19 : decode cX12_keep 19 = .ok (.iconst 1, 1) := dk_4 (dk_at dksX12_keep_0 19 rfl rfl)
theorem dX12_keep_20 : decode cX12_keep 20 = .ok (.isub, 1) := dk_100 (dk_at dksX12_keep_0 20 rfl rfl)
theorem dX12_keep_21 : decode cX12_keep 21 = .ok (.invokeinterface 56 2, 5) := by decide +kernel
theorem dX12_keep_26 : decode cX12_keep 26 = .ok (.checkcast 60, 3) := dk_192 0 60 (dk_at dksX12_keep_1 5 rfl rfl)
theorem dX12_keep_29 : decode cX12_keep 29 = .ok (.getfield 62, 3) := dk_180 0 62 (dk_at dksX12_keep_1 8 rfl rfl)
theorem dX12_keep_32 : decode cX12_keep 32 = .ok (.lload_n 1, 1) := dk_31 (dk_at dksX12_keep_1 11 rfl rfl)
theorem dX12_keep_33 : decode cX12_keep 33 = .ok (.lcmp, 1) := dk_148 (dk_at dksX12_keep_1 12 rfl rfl)
theorem dX12_keep_34 : decode cX12_keep 34 = .ok (.ifCond .ge 9, 3) := dk_156 0 9 (dk_at dksX12_keep_1 13 rfl rfl)
theorem dX12_keep_37 : decode cX12_keep 37 = .ok (.iinc 3 (-1), 3) := dk_132 3 255 (dk_at dksX12_keep_1 16 rfl rfl)
theorem dX12_keep_40 : decode cX12_keep 40 = .ok (.goto (-30), 3) := dk_167 255 226 (dk_at dksX12_keep_1 19 rfl rfl)
theorem dX12_keep_43 : decode cX12_keep 43 = .ok (.iload_n 3, 1) := dk_29 (dk_at dksX12_keep_1 22 rfl rfl)
theorem dX12_keep_44 : decode cX12_keep 44 = .ok (.bipush 10, 2) := dk_16 10 (dk_at dksX12_keep_2 0 rfl rfl)
theorem dX12_keep_46 : decode cX12_keep 46 = .ok (.if_icmp .ge 48, 3) := dk_162 0 48 (dk_at dksX12_keep_2 2 rfl rfl)
theorem dX12_keep_49 : decode cX12_keep 49 = .ok (.aload_n 0, 1) := dk_42 (dk_at dksX12_keep_2 5 rfl rfl)
theorem dX12_keep_50 : decode cX12_keep 50 = .ok (.getfield 35, 3) := dk_180 0 35 (dk_at dksX12_keep_2 6 rfl rfl)
theorem dX12_keep_53 : decode cX12_keep 53 = .ok (.arraylength, 1) := dk_190 (dk_at dksX12_keep_2 9 rfl rfl)
theorem dX12_keep_54 : decode cX12_keep 54 = .ok (.newarray .int, 2) := dk_188_10 (dk_at dksX12_keep_2 10 rfl rfl)
theorem dX12_keep_56 : decode cX12_keep 56 = .ok (.astore 4, 2) := dk_58 4 (dk_at dksX12_keep_2 12 rfl rfl)
theorem dX12_keep_58 : decode cX12_keep 58 = .ok (.aload_n 0, 1) := dk_42 (dk_at dksX12_keep_2 14 rfl rfl)
theorem dX12_keep_59 : decode cX12_keep 59 = .ok (.getfield 35, 3) := dk_180 0 35 (dk_at dksX12_keep_2 15 rfl rfl)
theorem dX12_keep_62 : decode cX12_keep 62 = .ok (.iconst 0, 1) := dk_3 (dk_at dksX12_keep_2 18 rfl rfl)
theorem dX12_keep_63 : decode cX12_keep 63 = .ok (.aload 4, 2) := dk_25 4 (dk_at dksX12_keep_2 19 rfl rfl)
theorem dX12_keep_65 : decode cX12_keep 65 = .ok (.iconst 0, 1) := dk_3 (dk_at dksX12_keep_2 21 rfl rfl)
theorem dX12_keep_66 : decode cX12_keep 66 = .ok (.aload_n 0, 1) := dk_42 (dk_at dksX12_keep_2 22 rfl rfl)
theorem dX12_keep_67 : decode cX12_keep 67 = .ok (.getfield 35, 3) := dk_180 0 35 (dk_at dksX12_keep_3 0 rfl rfl)
theorem dX12_keep_70 : decode cX12_keep 70 = .ok (.arraylength, 1) := dk_190 (dk_at dksX12_keep_3 3 rfl rfl)
theorem dX12_keep_71 : decode cX12_keep 71 = .ok (.invokestatic 66, 3) := dk_184 0 66 (dk_at dksX12_keep_3 4 rfl rfl)
theorem dX12_keep_74 : decode cX12_keep 74 = .ok (.aload_n 0, 1) := dk_42 (dk_at dksX12_keep_3 7 rfl rfl)
theorem dX12_keep_75 : decode cX12_keep 75 = .ok (.getfield 12, 3) := dk_180 0 12 (dk_at dksX12_keep_3 8 rfl rfl)
theorem dX12_keep_78 : decode cX12_keep 78 = .ok (.iload_n 3, 1) := dk_29 (dk_at dksX12_keep_3 11 rfl rfl)
theorem dX12_keep_79 : decode cX12_keep 79 = .ok (.new 60, 3) := dk_187 0 60 (dk_at dksX12_keep_3 12 rfl rfl)
theorem dX12_keep_82 : decode cX12_keep 82 = .ok (.dup, 1) := dk_89 (dk_at dksX12_keep_3 15 rfl rfl)
theorem dX12_keep_83 : decode cX12_keep 83 = .ok (.aload 4, 2) := dk_25 4 (dk_at dksX12_keep_3 16 rfl rfl)
theorem dX12_keep_85 : decode cX12_keep 85 = .ok (.lload_n 1, 1) := dk_31 (dk_at dksX12_keep_3 18 rfl rfl)
theorem dX12_keep_86 : decode cX12_keep 86 = .ok (.invokespecial 72, 3) := dk_183 0 72 (dk_at dksX12_keep_3 19 rfl rfl)
theorem dX12_keep_89 : decode cX12_keep 89 = .ok (.invokeinterface 75 3, 5) := by decide +kernel
theorem dX12_keep_94 : decode cX12_keep 94 = .ok (.aload_n 0, 1) := dk_42 (dk_at dksX12_keep_4 5 rfl rfl)
theorem dX12_keep_95 : decode cX12_keep 95 = .ok (.getfield 12, 3) := dk_180 0 12 (dk_at dksX12_keep_4 6 rfl rfl)
theorem dX12_keep_98 : decode cX12_keep 98 = .ok (.invokeinterface 51 1, 5) := by decide +kernel
theorem dX12_keep_103 : decode cX12_keep 103 = .ok (.bipush 10, 2) := dk_16 10 (dk_at dksX12_keep_4 14 rfl rfl)
theorem dX12_keep_105 : decode cX12_keep 105 = .ok (.if_icmp .le 15, 3) := dk_164 0 15 (dk_at dksX12_keep_4 16 rfl rfl)
theorem dX12_keep_108 : decode cX12_keep 108 = .ok (.aload_n 0, 1) := dk_42 (dk_at dksX12_keep_4 19 rfl rfl)
theorem dX12_keep_109 : decode cX12_keep 109 = .ok (.getfield 12, 3) := dk_180 0 12 (dk_at dksX12_keep_4 20 rfl rfl)
theorem dX12_keep_112 : decode cX12_keep 112 = .ok (.bipush 10, 2) := dk_16 10 (dk_at dksX12_keep_5 0 rfl rfl)
theorem dX12_keep_114 : decode cX12_keep 114 = .ok (.invokeinterface 79 2, 5) := by decide +kernel
theorem dX12_keep_119 : decode cX12_keep 119 = .ok (.pop, 1) := dk_87 (dk_at dksX12_keep_5 7 rfl rfl)
theorem dX12_keep_120 : decode cX12_keep 120 = .ok (.return_, 1) := dk_177 (dk_at dksX12_keep_5 8 rfl rfl)
theorem q80 : (Jvm.Cond.initialized "Trellistag$All") ∈ lw_all := lw_g (lw_at lw_m1 45 rfl) rfl
theorem q768 : (Jvm.Cond.selects "Trellistag$All" ({ cls := "java/lang/Object", name := "getClass", desc := "()Ljava/lang/Class;" } : Jvm.MethodName) ({ cls := "java/lang/Object", name := "getClass", desc := "()Ljava/lang/Class;" } : Jvm.MethodName)) ∈ lw_all := lw_g (lw_at lw_m4 13 rfl) rfl
theorem q1288 : (Jvm.Cond.fieldLink "Trellistag$All" (30 : Nat) "Trellistag$Trellis" "size" "I") ∈ lw_all := lw_g (lw_at lw_m6 53 rfl) rfl
theorem q1367 : (Jvm.Cond.fieldLink "Trellistag$All" (62 : Nat) "Trellistag$Path" "weight" "J") ∈ lw_all := lw_g (lw_at lw_m6 132 rfl) rfl
theorem q1446 : (Jvm.Cond.instantiable "Trellistag$All" (5 : Nat)) ∈ lw_all := lw_g (lw_at lw_m6 211 rfl) rfl
theorem q1448 : (Jvm.Cond.instanceMethod ({ cls := "Trellistag$All", name := "<init>", desc := "(LTrellistag$Trellis;I)V" } : Jvm.MethodName)) ∈ lw_all := lw_g (lw_at lw_m6 213 rfl) rfl
theorem q1449 : (Jvm.Cond.code ({ cls := "Trellistag$All", name := "<init>", desc := "(LTrellistag$Trellis;I)V" } : Jvm.MethodName) prog_2_method_1_code (3 : Nat) (Option.none : Option Jvm.ClassFile.FieldType)) ∈ lw_all := lw_g (lw_at lw_m6 214 rfl) rfl
theorem q1450 : (Jvm.Cond.methodLink "Trellistag$All" (3 : Nat) ({ cls := "java/lang/Object", name := "<init>", desc := "()V" } : Jvm.MethodName)) ∈ lw_all := lw_g (lw_at lw_m6 215 rfl) rfl
theorem q1451 : (Jvm.Cond.classLink "Trellistag$All" (9 : Nat) "java/util/ArrayList") ∈ lw_all := lw_g (lw_at lw_m6 216 rfl) rfl
theorem q1452 : (Jvm.Cond.methodLink "Trellistag$All" (11 : Nat) ({ cls := "java/util/ArrayList", name := "<init>", desc := "()V" } : Jvm.MethodName)) ∈ lw_all := lw_g (lw_at lw_m6 217 rfl) rfl
theorem q1453 : (Jvm.Cond.fieldLink "Trellistag$All" (22 : Nat) "Trellistag$All" "trellis" "LTrellistag$Trellis;") ∈ lw_all := lw_g (lw_at lw_m6 218 rfl) rfl
theorem q1454 : (Jvm.Cond.fieldLink "Trellistag$All" (35 : Nat) "Trellistag$All" "tags" "[I") ∈ lw_all := lw_g (lw_at lw_m6 219 rfl) rfl
theorem q1455 : (Jvm.Cond.fieldLink "Trellistag$All" (12 : Nat) "Trellistag$All" "best" "Ljava/util/List;") ∈ lw_all := lw_g (lw_at lw_m6 220 rfl) rfl
theorem q1457 : (Jvm.Cond.fieldLink "Trellistag$All" (26 : Nat) "Trellistag$All" "place" "I") ∈ lw_all := lw_g (lw_at lw_m6 222 rfl) rfl
theorem q1458 : (Jvm.Cond.fieldLink "Trellistag$All" (18 : Nat) "Trellistag$All" "sums" "[J") ∈ lw_all := lw_g (lw_at lw_m6 223 rfl) rfl
theorem q1460 : (Jvm.Cond.laysFinal "Trellistag$All" "Trellistag$All" "trellis" "LTrellistag$Trellis;") ∈ lw_all := lw_g (lw_at lw_m6 225 rfl) rfl
theorem q1461 : (Jvm.Cond.soleField "Trellistag$All" "trellis") ∈ lw_all := lw_g (lw_at lw_m6 226 rfl) rfl
theorem q1462 : (Jvm.Cond.laysFinal "Trellistag$All" "Trellistag$All" "tags" "[I") ∈ lw_all := lw_g (lw_at lw_m6 227 rfl) rfl
theorem q1463 : (Jvm.Cond.soleField "Trellistag$All" "tags") ∈ lw_all := lw_g (lw_at lw_m6 228 rfl) rfl
theorem q1464 : (Jvm.Cond.laysFinal "Trellistag$All" "Trellistag$All" "best" "Ljava/util/List;") ∈ lw_all := lw_g (lw_at lw_m6 229 rfl) rfl
theorem q1465 : (Jvm.Cond.soleField "Trellistag$All" "best") ∈ lw_all := lw_g (lw_at lw_m6 230 rfl) rfl
theorem q1466 : (Jvm.Cond.laysFinal "Trellistag$All" "Trellistag$All" "place" "I") ∈ lw_all := lw_g (lw_at lw_m6 231 rfl) rfl
theorem q1467 : (Jvm.Cond.soleField "Trellistag$All" "place") ∈ lw_all := lw_g (lw_at lw_m6 232 rfl) rfl
theorem q1468 : (Jvm.Cond.laysFinal "Trellistag$All" "Trellistag$All" "sums" "[J") ∈ lw_all := lw_g (lw_at lw_m6 233 rfl) rfl
theorem q1469 : (Jvm.Cond.soleField "Trellistag$All" "sums") ∈ lw_all := lw_g (lw_at lw_m6 234 rfl) rfl
theorem q1470 : (Jvm.Cond.superclass "Trellistag$All" "java/lang/Object") ∈ lw_all := lw_g (lw_at lw_m6 235 rfl) rfl
theorem q1472 : (Jvm.Cond.instanceMethod ({ cls := "Trellistag$All", name := "goOn", desc := "(IJ)V" } : Jvm.MethodName)) ∈ lw_all := lw_g (lw_at lw_m6 237 rfl) rfl
theorem q1473 : (Jvm.Cond.selects "Trellistag$All" ({ cls := "Trellistag$All", name := "goOn", desc := "(IJ)V" } : Jvm.MethodName) ({ cls := "Trellistag$All", name := "goOn", desc := "(IJ)V" } : Jvm.MethodName)) ∈ lw_all := lw_g (lw_at lw_m6 238 rfl) rfl
theorem q1474 : (Jvm.Cond.code ({ cls := "Trellistag$All", name := "goOn", desc := "(IJ)V" } : Jvm.MethodName) prog_2_method_2_code (7 : Nat) (Option.none : Option Jvm.ClassFile.FieldType)) ∈ lw_all := lw_g (lw_at lw_m6 239 rfl) rfl
theorem q1475 : (Jvm.Cond.methodLink "Trellistag$All" (39 : Nat) ({ cls := "Trellistag$All", name := "keep", desc := "(J)V" } : Jvm.MethodName)) ∈ lw_all := lw_g (lw_at lw_m7 0 rfl) rfl
theorem q1476 : (Jvm.Cond.privateMethod ({ cls := "Trellistag$All", name := "keep", desc := "(J)V" } : Jvm.MethodName)) ∈ lw_tbl := lw_at lw_m7 1 rfl
theorem q1477 : (Jvm.Cond.instanceMethod ({ cls := "Trellistag$All", name := "keep", desc := "(J)V" } : Jvm.MethodName)) ∈ lw_all := lw_g (lw_at lw_m7 2 rfl) rfl
theorem q1478 : (Jvm.Cond.code ({ cls := "Trellistag$All", name := "keep", desc := "(J)V" } : Jvm.MethodName) prog_2_method_3_code (5 : Nat) (Option.none : Option Jvm.ClassFile.FieldType)) ∈ lw_all := lw_g (lw_at lw_m7 3 rfl) rfl
theorem q1479 : (Jvm.Cond.interfaceEntry "Trellistag$All" (51 : Nat)) ∈ lw_tbl := lw_at lw_m7 4 rfl
theorem q1480 : (Jvm.Cond.methodLink "Trellistag$All" (51 : Nat) ({ cls := "java/util/List", name := "size", desc := "()I" } : Jvm.MethodName)) ∈ lw_all := lw_g (lw_at lw_m7 5 rfl) rfl
theorem q1481 : (Jvm.Cond.interfaceEntry "Trellistag$All" (56 : Nat)) ∈ lw_tbl := lw_at lw_m7 6 rfl
theorem q1482 : (Jvm.Cond.methodLink "Trellistag$All" (56 : Nat) ({ cls := "java/util/List", name := "get", desc := "(I)Ljava/lang/Object;" } : Jvm.MethodName)) ∈ lw_all := lw_g (lw_at lw_m7 7 rfl) rfl
theorem q1483 : (Jvm.Cond.classLink "Trellistag$All" (60 : Nat) "Trellistag$Path") ∈ lw_all := lw_g (lw_at lw_m7 8 rfl) rfl
theorem q1484 : (Jvm.Cond.methodLink "Trellistag$All" (66 : Nat) ({ cls := "java/lang/System", name := "arraycopy", desc := "(Ljava/lang/Object;ILjava/lang/Object;II)V" } : Jvm.MethodName)) ∈ lw_all := lw_g (lw_at lw_m7 9 rfl) rfl
theorem q1485 : (Jvm.Cond.methodLink "Trellistag$All" (72 : Nat) ({ cls := "Trellistag$Path", name := "<init>", desc := "([IJ)V" } : Jvm.MethodName)) ∈ lw_all := lw_g (lw_at lw_m7 10 rfl) rfl
theorem q1486 : (Jvm.Cond.interfaceEntry "Trellistag$All" (75 : Nat)) ∈ lw_tbl := lw_at lw_m7 11 rfl
theorem q1487 : (Jvm.Cond.methodLink "Trellistag$All" (75 : Nat) ({ cls := "java/util/List", name := "add", desc := "(ILjava/lang/Object;)V" } : Jvm.MethodName)) ∈ lw_all := lw_g (lw_at lw_m7 12 rfl) rfl
theorem q1512 : (Jvm.Cond.interfaceEntry "Trellistag$All" (79 : Nat)) ∈ lw_tbl := lw_at lw_m7 37 rfl
theorem q1513 : (Jvm.Cond.methodLink "Trellistag$All" (79 : Nat) ({ cls := "java/util/List", name := "remove", desc := "(I)Ljava/lang/Object;" } : Jvm.MethodName)) ∈ lw_all := lw_g (lw_at lw_m7 38 rfl) rfl
theorem q1514 : (Jvm.Cond.methodLink "Trellistag$All" (43 : Nat) ({ cls := "Trellistag$Trellis", name := "at", desc := "(III)J" } : Jvm.MethodName)) ∈ lw_all := lw_g (lw_at lw_m7 39 rfl) rfl
theorem q1515 : (Jvm.Cond.methodLink "Trellistag$All" (47 : Nat) ({ cls := "Trellistag$All", name := "goOn", desc := "(IJ)V" } : Jvm.MethodName)) ∈ lw_all := lw_g (lw_at lw_m7 40 rfl) rfl
theorem q1805 : (Jvm.Cond.castable "Trellistag$All" "java/lang/Object") ∈ lw_tbl := lw_at lw_m8 90 rfl
theorem in_X12 : ∀ w ∈ wsX120, w ∈ lw_all := lw_in wsX120 [1460, 1462, 1464, 1466, 1468] (by decide +kernel) (by decide +kernel)


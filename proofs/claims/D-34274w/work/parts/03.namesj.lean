/-! java/util/AbstractMap -/
set_option maxRecDepth 100000
def RJ0 : String := "java/util/AbstractMap"
abbrev cJ0_init : ByteArray := prog_42_method_1_code
def yJ0_init : MethodName := ⟨RJ0, "<init>", "()V"⟩
theorem dJ0_init_0 : decode cJ0_init 0 = .ok (.aload_n 0, 1) := by decide +kernel
theorem dJ0_init_1 : decode cJ0_init 1 = .ok (.invokespecial 1, 3) := by decide +kernel
theorem dJ0_init_4 : decode cJ0_init 4 = .ok (.return_, 1) := by decide +kernel
theorem q40 : (Jvm.Cond.initialized "java/util/AbstractMap") ∈ lw_all := lw_g (lw_at lw_m1 5 rfl) rfl
theorem q107 : (Jvm.Cond.instanceMethod ({ cls := "java/util/AbstractMap", name := "<init>", desc := "()V" } : Jvm.MethodName)) ∈ lw_all := lw_g (lw_at lw_m1 72 rfl) rfl
theorem q108 : (Jvm.Cond.code ({ cls := "java/util/AbstractMap", name := "<init>", desc := "()V" } : Jvm.MethodName) prog_42_method_1_code (1 : Nat) (Option.none : Option Jvm.ClassFile.FieldType)) ∈ lw_all := lw_g (lw_at lw_m1 73 rfl) rfl
theorem q109 : (Jvm.Cond.methodLink "java/util/AbstractMap" (1 : Nat) ({ cls := "java/lang/Object", name := "<init>", desc := "()V" } : Jvm.MethodName)) ∈ lw_all := lw_g (lw_at lw_m1 74 rfl) rfl
theorem q129 : (Jvm.Cond.soleField "java/util/AbstractMap" "keySet") ∈ lw_all := lw_g (lw_at lw_m1 94 rfl) rfl
theorem q131 : (Jvm.Cond.soleField "java/util/AbstractMap" "values") ∈ lw_all := lw_g (lw_at lw_m1 96 rfl) rfl

/-! java/util/TreeMap -/
set_option maxRecDepth 100000
def RJ1 : String := "java/util/TreeMap"
def TJ1 : u_T := fun k => match k with
  | 0 => ("java/util/AbstractMap", "keySet", "Ljava/util/Set;", false)
  | 1 => ("java/util/AbstractMap", "values", "Ljava/util/Collection;", false)
  | 2 => ("java/util/TreeMap", "comparator", "Ljava/util/Comparator;", true)
  | 3 => ("java/util/TreeMap", "root", "Ljava/util/TreeMap$Entry;", false)
  | 4 => ("java/util/TreeMap", "size", "I", false)
  | 5 => ("java/util/TreeMap", "modCount", "I", false)
  | 6 => ("java/util/TreeMap", "entrySet", "Ljava/util/TreeMap$EntrySet;", false)
  | 7 => ("java/util/TreeMap", "navigableKeySet", "Ljava/util/TreeMap$KeySet;", false)
  | _ => ("java/util/TreeMap", "descendingMap", "Ljava/util/NavigableMap;", false)
def tyJ1 : Nat → FieldType := fun k => match k with
  | 0 => .object "java/util/Set"
  | 1 => .object "java/util/Collection"
  | 2 => .object "java/util/Comparator"
  | 3 => .object "java/util/TreeMap$Entry"
  | 4 => .int
  | 5 => .int
  | 6 => .object "java/util/TreeMap$EntrySet"
  | 7 => .object "java/util/TreeMap$KeySet"
  | _ => .object "java/util/NavigableMap"
abbrev wsJ10 : List Cond := u_ws RJ1 TJ1 9
theorem nmJ1 : ∀ a, a < 9 → ∀ b, b < 9 → a ≠ b → (TJ1 a).2.1 ≠ (TJ1 b).2.1 := by decide +kernel
theorem tyJ1_ok : ∀ k, k < 9 → parseFieldDescriptor (TJ1 k).2.2.1 = some (tyJ1 k) := by decide +kernel
abbrev cJ1_init : ByteArray := prog_61_method_1_code
def yJ1_init : MethodName := ⟨RJ1, "<init>", "()V"⟩
def dkwJ1_init_0 : List UInt8 := [42, 183, 0, 1, 42, 3, 181, 0, 7, 42, 3, 181, 0, 13, 42, 1, 181, 0, 16, 177]
abbrev dktJ1_init_0 : List UInt8 := dkwJ1_init_0 ++ []
theorem dksJ1_init_0 : cJ1_init.data.toList.drop 0 = dktJ1_init_0 := by decide +kernel
theorem dJ1_init_0 : decode cJ1_init 0 = .ok (.aload_n 0, 1) := dk_42 (dk_at dksJ1_init_0 0 rfl rfl)
theorem dJ1_init_1 : decode cJ1_init 1 = .ok (.invokespecial 1, 3) := dk_183 0 1 (dk_at dksJ1_init_0 1 rfl rfl)
theorem dJ1_init_4 : decode cJ1_init 4 = .ok (.aload_n 0, 1) := dk_42 (dk_at dksJ1_init_0 4 rfl rfl)
theorem dJ1_init_5 : decode cJ1_init 5 = .ok (.iconst 0, 1) := dk_3 (dk_at dksJ1_init_0 5 rfl rfl)
theorem dJ1_init_6 : decode cJ1_init 6 = .ok (.putfield 7, 3) := dk_181 0 7 (dk_at dksJ1_init_0 6 rfl rfl)
theorem dJ1_init_9 : decode cJ1_init 9 = .ok (.aload_n 0, 1) := dk_42 (dk_at dksJ1_init_0 9 rfl rfl)
theorem dJ1_init_10 : decode cJ1_init 10 = .ok (.iconst 0, 1) := dk_3 (dk_at dksJ1_init_0 10 rfl rfl)
theorem dJ1_init_11 : decode cJ1_init 11 = .ok (.putfield 13, 3) := dk_181 0 13 (dk_at dksJ1_init_0 11 rfl rfl)
theorem dJ1_init_14 : decode cJ1_init 14 = .ok (.aload_n 0, 1) := dk_42 (dk_at dksJ1_init_0 14 rfl rfl)
theorem dJ1_init_15 : decode cJ1_init 15 = .ok (.aconst_null, 1) := dk_1 (dk_at dksJ1_init_0 15 rfl rfl)
theorem dJ1_init_16 : decode cJ1_init 16 = .ok (.putfield 16, 3) := dk_181 0 16 (dk_at dksJ1_init_0 16 rfl rfl)
theorem dJ1_init_19 : decode cJ1_init 19 = .ok (.return_, 1) := dk_177 (dk_at dksJ1_init_0 19 rfl rfl)
abbrev cJ1_get : ByteArray := prog_61_method_8_code
def yJ1_get : MethodName := ⟨RJ1, "get", "(Ljava/lang/Object;)Ljava/lang/Object;"⟩
def dkwJ1_get_0 : List UInt8 := [42, 43, 182, 0, 50, 77, 44, 199, 0, 7, 1, 167, 0, 7, 44, 180, 0, 58, 176]
abbrev dktJ1_get_0 : List UInt8 := dkwJ1_get_0 ++ []
theorem dksJ1_get_0 : cJ1_get.data.toList.drop 0 = dktJ1_get_0 := by decide +kernel
theorem dJ1_get_0 : decode cJ1_get 0 = .ok (.aload_n 0, 1) := dk_42 (dk_at dksJ1_get_0 0 rfl rfl)
theorem dJ1_get_1 : decode cJ1_get 1 = .ok (.aload_n 1, 1) := dk_43 (dk_at dksJ1_get_0 1 rfl rfl)
theorem dJ1_get_2 : decode cJ1_get 2 = .ok (.invokevirtual 50, 3) := dk_182 0 50 (dk_at dksJ1_get_0 2 rfl rfl)
theorem dJ1_get_5 : decode cJ1_get 5 = .ok (.astore_n 2, 1) := dk_77 (dk_at dksJ1_get_0 5 rfl rfl)
theorem dJ1_get_6 : decode cJ1_get 6 = .ok (.aload_n 2, 1) := dk_44 (dk_at dksJ1_get_0 6 rfl rfl)
theorem dJ1_get_7 : decode cJ1_get 7 = .ok (.ifnonnull 7, 3) := dk_199 0 7 (dk_at dksJ1_get_0 7 rfl rfl)
theorem dJ1_get_10 : decode cJ1_get 10 = .ok (.aconst_null, 1) := dk_1 (dk_at dksJ1_get_0 10 rfl rfl)
theorem dJ1_get_11 : decode cJ1_get 11 = .ok (.goto 7, 3) := dk_167 0 7 (dk_at dksJ1_get_0 11 rfl rfl)
theorem dJ1_get_14 : decode cJ1_get 14 = .ok (.aload_n 2, 1) := dk_44 (dk_at dksJ1_get_0 14 rfl rfl)
theorem dJ1_get_15 : decode cJ1_get 15 = .ok (.getfield 58, 3) := dk_180 0 58 (dk_at dksJ1_get_0 15 rfl rfl)
theorem dJ1_get_18 : decode cJ1_get 18 = .ok (.areturn, 1) := dk_176 (dk_at dksJ1_get_0 18 rfl rfl)
abbrev cJ1_getEntry : ByteArray := prog_61_method_15_code
def yJ1_getEntry : MethodName := ⟨RJ1, "getEntry", "(Ljava/lang/Object;)Ljava/util/TreeMap$Entry;"⟩
def dkwJ1_getEntry_3 : List UInt8 := [45, 176, 167, 255, 212, 1, 176]
abbrev dktJ1_getEntry_3 : List UInt8 := dkwJ1_getEntry_3 ++ []
def dkwJ1_getEntry_2 : List UInt8 := [156, 0, 11, 45, 180, 0, 111, 78, 167, 0, 18, 21, 4, 158, 0, 11, 45, 180, 0, 114, 78, 167, 0, 5]
abbrev dktJ1_getEntry_2 : List UInt8 := dkwJ1_getEntry_2 ++ dktJ1_getEntry_3
def dkwJ1_getEntry_1 : List UInt8 := [180, 0, 101, 78, 45, 198, 0, 46, 44, 45, 180, 0, 105, 185, 0, 107, 2, 0, 54, 4, 21, 4]
abbrev dktJ1_getEntry_1 : List UInt8 := dkwJ1_getEntry_1 ++ dktJ1_getEntry_2
def dkwJ1_getEntry_0 : List UInt8 := [42, 180, 0, 16, 198, 0, 9, 42, 43, 182, 0, 92, 176, 43, 184, 0, 95, 87, 43, 192, 0, 99, 77, 42]
abbrev dktJ1_getEntry_0 : List UInt8 := dkwJ1_getEntry_0 ++ dktJ1_getEntry_1
theorem dksJ1_getEntry_0 : cJ1_getEntry.data.toList.drop 0 = dktJ1_getEntry_0 := by decide +kernel
theorem dksJ1_getEntry_1 : cJ1_getEntry.data.toList.drop 24 = dktJ1_getEntry_1 := dk_seg dksJ1_getEntry_0 24 rfl rfl
theorem dksJ1_getEntry_2 : cJ1_getEntry.data.toList.drop 46 = dktJ1_getEntry_2 := dk_seg dksJ1_getEntry_1 22 rfl rfl
theorem dksJ1_getEntry_3 : cJ1_getEntry.data.toList.drop 70 = dktJ1_getEntry_3 := dk_seg dksJ1_getEntry_2 24 rfl rfl
theorem dJ1_getEntry_0 : decode cJ1_getEntry 0 = .ok (.aload_n 0, 1) := dk_42 (dk_at dksJ1_getEntry_0 0 rfl rfl)
theorem dJ1_getEntry_1 : decode cJ1_getEntry 1 = .ok (.getfield 16, 3) := dk_180 0 16 (dk_at dksJ1_getEntry_0 1 rfl rfl)
theorem dJ1_getEntry_4 : decode cJ1_getEntry 4 = .ok (.ifnull 9, 3) := dk_198 0 9 (dk_at dksJ1_getEntry_0 4 rfl rfl)
theorem dJ1_getEntry_7 : decode cJ1_getEntry 7 = .ok (.aload_n 0, 1) := dk_42 (dk_at dksJ1_getEntry_0 7 rfl rfl)
theorem dJ1_getEntry_8 : decode cJ1_getEntry 8 = .ok (.aload_n 1, 1) := dk_43 (dk_at dksJ1_getEntry_0 8 rfl rfl)
theorem dJ1_getEntry_9 : decode cJ1_getEntry 9 = .ok (.invokevirtual 92, 3) := dk_182 0 92 (dk_at dksJ1_getEntry_0 9 rfl rfl)
theorem dJ1_getEntry_12 : decode cJ1_getEntry 12 = .ok (.areturn, 1) := dk_176 (dk_at dksJ1_getEntry_0 12 rfl rfl)
theorem dJ1_getEntry_13 : decode cJ1_getEntry 13 = .ok (.aload_n 1, 1) := dk_43 (dk_at dksJ1_getEntry_0 13 rfl rfl)
theorem dJ1_getEntry_14 : decode cJ1_getEntry 14 = .ok (.invokestatic 95, 3) := dk_184 0 95 (dk_at dksJ1_getEntry_0 14 rfl rfl)
theorem dJ1_getEntry_17 : decode cJ1_getEntry 17 = .ok (.pop, 1) := dk_87 (dk_at dksJ1_getEntry_0 17 rfl rfl)
theorem dJ1_getEntry_18 : decode cJ1_getEntry 18 = .ok (.aload_n 1, 1) := dk_43 (dk_at dksJ1_getEntry_0 18 rfl rfl)
theorem dJ1_getEntry_19 : decode cJ1_getEntry 19 = .ok (.checkcast 99, 3) := dk_192 0 99 (dk_at dksJ1_getEntry_0 19 rfl rfl)
theorem dJ1_getEntry_22 : decode cJ1_getEntry 22 = .ok (.astore_n 2, 1) := dk_77 (dk_at dksJ1_getEntry_0 22 rfl rfl)
theorem dJ1_getEntry_23 : decode cJ1_getEntry 23 = .ok (.aload_n 0, 1) := dk_42 (dk_at dksJ1_getEntry_0 23 rfl rfl)
theorem dJ1_getEntry_24 : decode cJ1_getEntry 24 = .ok (.getfield 101, 3) := dk_180 0 101 (dk_at dksJ1_getEntry_1 0 rfl rfl)
theorem dJ1_getEntry_27 : decode cJ1_getEntry 27 = .ok (.astore_n 3, 1) := dk_78 (dk_at dksJ1_getEntry_1 3 rfl rfl)
theorem dJ1_getEntry_28 : decode cJ1_getEntry 28 = .ok (.aload_n 3, 1) := dk_45 (dk_at dksJ1_getEntry_1 4 rfl rfl)
theorem dJ1_getEntry_29 : decode cJ1_getEntry 29 = .ok (.ifnull 46, 3) := dk_198 0 46 (dk_at dksJ1_getEntry_1 5 rfl rfl)
theorem dJ1_getEntry_32 : decode cJ1_getEntry 32 = .ok (.aload_n 2, 1) := dk_44 (dk_at dksJ1_getEntry_1 8 rfl rfl)
theorem dJ1_getEntry_33 : decode cJ1_getEntry 33 = .ok (.aload_n 3, 1) := dk_45 (dk_at dksJ1_getEntry_1 9 rfl rfl)
theorem dJ1_getEntry_34 : decode cJ1_getEntry 34 = .ok (.getfield 105, 3) := dk_180 0 105 (dk_at dksJ1_getEntry_1 10 rfl rfl)
theorem dJ1_getEntry_37 : decode cJ1_getEntry 37 = .ok (.invokeinterface 107 2, 5) := by decide +kernel
theorem dJ1_getEntry_42 : decode cJ1_getEntry 42 = .ok (.istore 4, 2) := dk_54 4 (dk_at dksJ1_getEntry_1 18 rfl rfl)
theorem dJ1_getEntry_44 : decode cJ1_getEntry 44 = .ok (.iload 4, 2) := dk_21 4 (dk_at dksJ1_getEntry_1 20 rfl rfl)
theorem dJ1_getEntry_46 : decode cJ1_getEntry 46 = .ok (.ifCond .ge 11, 3) := dk_156 0 11 (dk_at dksJ1_getEntry_2 0 rfl rfl)
theorem dJ1_getEntry_49 : decode cJ1_getEntry 49 = .ok (.aload_n 3, 1) := dk_45 (dk_at dksJ1_getEntry_2 3 rfl rfl)
theorem dJ1_getEntry_50 : decode cJ1_getEntry 50 = .ok (.getfield 111, 3) := dk_180 0 111 (dk_at dksJ1_getEntry_2 4 rfl rfl)
theorem dJ1_getEntry_53 : decode cJ1_getEntry 53 = .ok (.astore_n 3, 1) := dk_78 (dk_at dksJ1_getEntry_2 7 rfl rfl)
theorem dJ1_getEntry_54 : decode cJ1_getEntry 54 = .ok (.goto 18, 3) := dk_167 0 18 (dk_at dksJ1_getEntry_2 8 rfl rfl)
theorem dJ1_getEntry_57 : decode cJ1_getEntry 57 = .ok (.iload 4, 2) := dk_21 4 (dk_at dksJ1_getEntry_2 11 rfl rfl)
theorem dJ1_getEntry_59 : decode cJ1_getEntry 59 = .ok (.ifCond .le 11, 3) := dk_158 0 11 (dk_at dksJ1_getEntry_2 13 rfl rfl)
theorem dJ1_getEntry_62 : decode cJ1_getEntry 62 = .ok (.aload_n 3, 1) := dk_45 (dk_at dksJ1_getEntry_2 16 rfl rfl)
theorem dJ1_getEntry_63 : decode cJ1_getEntry 63 = .ok (.getfield 114, 3) := dk_180 0 114 (dk_at dksJ1_getEntry_2 17 rfl rfl)
theorem dJ1_getEntry_66 : decode cJ1_getEntry 66 = .ok (.astore_n 3, 1) := dk_78 (dk_at dksJ1_getEntry_2 20 rfl rfl)
theorem dJ1_getEntry_67 : decode cJ1_getEntry 67 = .ok (.goto 5, 3) := dk_167 0 5 (dk_at dksJ1_getEntry_2 21 rfl rfl)
theorem dJ1_getEntry_70 : decode cJ1_getEntry 70 = .ok (.aload_n 3, 1) := dk_45 (dk_at dksJ1_getEntry_3 0 rfl rfl)
theorem dJ1_getEntry_71 : decode cJ1_getEntry 71 = .ok (.areturn, 1) := dk_176 (dk_at dksJ1_getEntry_3 1 rfl rfl)
theorem dJ1_getEntry_72 : decode cJ1_getEntry 72 = .ok (.goto (-44), 3) := dk_167 255 212 (dk_at dksJ1_getEntry_3 2 rfl rfl)
theorem dJ1_getEntry_75 : decode cJ1_getEntry 75 = .ok (.aconst_null, 1) := dk_1 (dk_at dksJ1_getEntry_3 5 rfl rfl)
theorem dJ1_getEntry_76 : decode cJ1_getEntry 76 = .ok (.areturn, 1) := dk_176 (dk_at dksJ1_getEntry_3 6 rfl rfl)
abbrev cJ1_put : ByteArray := prog_61_method_21_code
def yJ1_put : MethodName := ⟨RJ1, "put", "(Ljava/lang/Object;Ljava/lang/Object;)Ljava/lang/Object;"⟩
def dkwJ1_put_0 : List UInt8 := [42, 43, 44, 4, 182, 0, 127, 176]
abbrev dktJ1_put_0 : List UInt8 := dkwJ1_put_0 ++ []
theorem dksJ1_put_0 : cJ1_put.data.toList.drop 0 = dktJ1_put_0 := by decide +kernel
theorem dJ1_put_0 : decode cJ1_put 0 = .ok (.aload_n 0, 1) := dk_42 (dk_at dksJ1_put_0 0 rfl rfl)
theorem dJ1_put_1 : decode cJ1_put 1 = .ok (.aload_n 1, 1) := dk_43 (dk_at dksJ1_put_0 1 rfl rfl)
theorem dJ1_put_2 : decode cJ1_put 2 = .ok (.aload_n 2, 1) := dk_44 (dk_at dksJ1_put_0 2 rfl rfl)
theorem dJ1_put_3 : decode cJ1_put 3 = .ok (.iconst 1, 1) := dk_4 (dk_at dksJ1_put_0 3 rfl rfl)
theorem dJ1_put_4 : decode cJ1_put 4 = .ok (.invokevirtual 127, 3) := dk_182 0 127 (dk_at dksJ1_put_0 4 rfl rfl)
theorem dJ1_put_7 : decode cJ1_put 7 = .ok (.areturn, 1) := dk_176 (dk_at dksJ1_put_0 7 rfl rfl)
abbrev cJ1_put_2 : ByteArray := prog_61_method_31_code
def yJ1_put_2 : MethodName := ⟨RJ1, "put", "(Ljava/lang/Object;Ljava/lang/Object;Z)Ljava/lang/Object;"⟩
def dkwJ1_put_2_9 : List UInt8 := [4, 167, 0, 4, 3, 182, 0, 139, 1, 176]
abbrev dktJ1_put_2_9 : List UInt8 := dkwJ1_put_2_9 ++ []
def dkwJ1_put_2_8 : List UInt8 := [25, 4, 44, 181, 0, 58, 25, 9, 176, 25, 4, 199, 255, 181, 42, 43, 44, 25, 6, 21, 5, 156, 0, 7]
abbrev dktJ1_put_2_8 : List UInt8 := dkwJ1_put_2_8 ++ dktJ1_put_2_9
def dkwJ1_put_2_7 : List UInt8 := [180, 0, 114, 58, 4, 167, 0, 28, 25, 4, 180, 0, 58, 58, 9, 29, 154, 0, 8, 25, 9, 199, 0, 9]
abbrev dktJ1_put_2_7 : List UInt8 := dkwJ1_put_2_7 ++ dktJ1_put_2_8
def dkwJ1_put_2_6 : List UInt8 := [21, 5, 156, 0, 13, 25, 4, 180, 0, 111, 58, 4, 167, 0, 43, 21, 5, 158, 0, 13, 25, 4]
abbrev dktJ1_put_2_6 : List UInt8 := dkwJ1_put_2_6 ++ dktJ1_put_2_7
def dkwJ1_put_2_5 : List UInt8 := [192, 0, 99, 58, 8, 25, 4, 58, 6, 25, 8, 25, 4, 180, 0, 105, 185, 0, 107, 2, 0, 54, 5]
abbrev dktJ1_put_2_5 : List UInt8 := dkwJ1_put_2_5 ++ dktJ1_put_2_6
def dkwJ1_put_2_4 : List UInt8 := [25, 4, 44, 181, 0, 58, 25, 8, 176, 25, 4, 199, 255, 180, 167, 0, 92, 43, 184, 0, 95, 87, 43]
abbrev dktJ1_put_2_4 : List UInt8 := dkwJ1_put_2_4 ++ dktJ1_put_2_5
def dkwJ1_put_2_3 : List UInt8 := [180, 0, 114, 58, 4, 167, 0, 28, 25, 4, 180, 0, 58, 58, 8, 29, 154, 0, 8, 25, 8, 199, 0, 9]
abbrev dktJ1_put_2_3 : List UInt8 := dkwJ1_put_2_3 ++ dktJ1_put_2_4
def dkwJ1_put_2_2 : List UInt8 := [54, 5, 21, 5, 156, 0, 13, 25, 4, 180, 0, 111, 58, 4, 167, 0, 43, 21, 5, 158, 0, 13, 25, 4]
abbrev dktJ1_put_2_2 : List UInt8 := dkwJ1_put_2_2 ++ dktJ1_put_2_3
def dkwJ1_put_2_1 : List UInt8 := [58, 7, 25, 7, 198, 0, 85, 25, 4, 58, 6, 25, 7, 43, 25, 4, 180, 0, 105, 185, 0, 117, 3, 0]
abbrev dktJ1_put_2_1 : List UInt8 := dkwJ1_put_2_1 ++ dktJ1_put_2_2
def dkwJ1_put_2_0 : List UInt8 := [42, 180, 0, 101, 58, 4, 25, 4, 199, 0, 11, 42, 43, 44, 182, 0, 135, 1, 176, 42, 180, 0, 16]
abbrev dktJ1_put_2_0 : List UInt8 := dkwJ1_put_2_0 ++ dktJ1_put_2_1
theorem dksJ1_put_2_0 : cJ1_put_2.data.toList.drop 0 = dktJ1_put_2_0 := by decide +kernel
theorem dksJ1_put_2_1 : cJ1_put_2.data.toList.drop 23 = dktJ1_put_2_1 := dk_seg dksJ1_put_2_0 23 rfl rfl
theorem dksJ1_put_2_2 : cJ1_put_2.data.toList.drop 47 = dktJ1_put_2_2 := dk_seg dksJ1_put_2_1 24 rfl rfl
theorem dksJ1_put_2_3 : cJ1_put_2.data.toList.drop 71 = dktJ1_put_2_3 := dk_seg dksJ1_put_2_2 24 rfl rfl
theorem dksJ1_put_2_4 : cJ1_put_2.data.toList.drop 95 = dktJ1_put_2_4 := dk_seg dksJ1_put_2_3 24 rfl rfl
theorem dksJ1_put_2_5 : cJ1_put_2.data.toList.drop 118 = dktJ1_put_2_5 := dk_seg dksJ1_put_2_4 23 rfl rfl
theorem dksJ1_put_2_6 : cJ1_put_2.data.toList.drop 141 = dktJ1_put_2_6 := dk_seg dksJ1_put_2_5 23 rfl rfl
theorem dksJ1_put_2_7 : cJ1_put_2.data.toList.drop 163 = dktJ1_put_2_7 := dk_seg dksJ1_put_2_6 22 rfl rfl
theorem dksJ1_put_2_8 : cJ1_put_2.data.toList.drop 187 = dktJ1_put_2_8 := dk_seg dksJ1_put_2_7 24 rfl rfl
theorem dksJ1_put_2_9 : cJ1_put_2.data.toList.drop 211 = dktJ1_put_2_9 := dk_seg dksJ1_put_2_8 24 rfl rfl
theorem dJ1_put_2_0 : decode cJ1_put_2 0 = .ok (.aload_n 0, 1) := dk_42 (dk_at dksJ1_put_2_0 0 rfl rfl)
theorem dJ1_put_2_1 : decode cJ1_put_2 1 = .ok (.getfield 101, 3) := dk_180 0 101 (dk_at dksJ1_put_2_0 1 rfl rfl)
theorem dJ1_put_2_4 : decode cJ1_put_2 4 = .ok (.astore 4, 2) := dk_58 4 (dk_at dksJ1_put_2_0 4 rfl rfl)
theorem dJ1_put_2_6 : decode cJ1_put_2 6 = .ok (.aload 4, 2) := dk_25 4 (dk_at dksJ1_put_2_0 6 rfl rfl)
theorem dJ1_put_2_8 : decode cJ1_put_2 8 = .ok (.ifnonnull 11, 3) := dk_199 0 11 (dk_at dksJ1_put_2_0 8 rfl rfl)
theorem dJ1_put_2_11 : decode cJ1_put_2 11 = .ok (.aload_n 0, 1) := dk_42 (dk_at dksJ1_put_2_0 11 rfl rfl)
theorem dJ1_put_2_12 : decode cJ1_put_2 12 = .ok (.aload_n 1, 1) := dk_43 (dk_at dksJ1_put_2_0 12 rfl rfl)
theorem dJ1_put_2_13 : decode cJ1_put_2 13 = .ok (.aload_n 2, 1) := dk_44 (dk_at dksJ1_put_2_0 13 rfl rfl)
theorem dJ1_put_2_14 : decode cJ1_put_2 14 = .ok (.invokevirtual 135, 3) := dk_182 0 135 (dk_at dksJ1_put_2_0 14 rfl rfl)
theorem dJ1_put_2_17 : decode cJ1_put_2 17 = .ok (.aconst_null, 1) := dk_1 (dk_at dksJ1_put_2_0 17 rfl rfl)
theorem dJ1_put_2_18 : decode cJ1_put_2 18 = .ok (.areturn, 1) := dk_176 (dk_at dksJ1_put_2_0 18 rfl rfl)
theorem dJ1_put_2_19 : decode cJ1_put_2 19 = .ok (.aload_n 0, 1) := dk_42 (dk_at dksJ1_put_2_0 19 rfl rfl)
theorem dJ1_put_2_20 : decode cJ1_put_2 20 = .ok (.getfield 16, 3) := dk_180 0 16 (dk_at dksJ1_put_2_0 20 rfl rfl)
theorem dJ1_put_2_23 : decode cJ1_put_2 23 = .ok (.astore 7, 2) := dk_58 7 (dk_at dksJ1_put_2_1 0 rfl rfl)
theorem dJ1_put_2_25 : decode cJ1_put_2 25 = .ok (.aload 7, 2) := dk_25 7 (dk_at dksJ1_put_2_1 2 rfl rfl)
theorem dJ1_put_2_27 : decode cJ1_put_2 27 = .ok (.ifnull 85, 3) := dk_198 0 85 (dk_at dksJ1_put_2_1 4 rfl rfl)
theorem dJ1_put_2_30 : decode cJ1_put_2 30 = .ok (.aload 4, 2) := dk_25 4 (dk_at dksJ1_put_2_1 7 rfl rfl)
theorem dJ1_put_2_32 : decode cJ1_put_2 32 = .ok (.astore 6, 2) := dk_58 6 (dk_at dksJ1_put_2_1 9 rfl rfl)
theorem dJ1_put_2_34 : decode cJ1_put_2 34 = .ok (.aload 7, 2) := dk_25 7 (dk_at dksJ1_put_2_1 11 rfl rfl)
theorem dJ1_put_2_36 : decode cJ1_put_2 36 = .ok (.aload_n 1, 1) := dk_43 (dk_at dksJ1_put_2_1 13 rfl rfl)
theorem dJ1_put_2_37 : decode cJ1_put_2 37 = .ok (.aload 4, 2) := dk_25 4 (dk_at dksJ1_put_2_1 14 rfl rfl)
theorem dJ1_put_2_39 : decode cJ1_put_2 39 = .ok (.getfield 105, 3) := dk_180 0 105 (dk_at dksJ1_put_2_1 16 rfl rfl)
theorem dJ1_put_2_42 : decode cJ1_put_2 42 = .ok (.invokeinterface 117 3, 5) := by decide +kernel
theorem dJ1_put_2_47 : decode cJ1_put_2 47 = .ok (.istore 5, 2) := dk_54 5 (dk_at dksJ1_put_2_2 0 rfl rfl)
theorem dJ1_put_2_49 : decode cJ1_put_2 49 = .ok (.iload 5, 2) := dk_21 5 (dk_at dksJ1_put_2_2 2 rfl rfl)
theorem dJ1_put_2_51 : decode cJ1_put_2 51 = .ok (.ifCond .ge 13, 3) := dk_156 0 13 (dk_at dksJ1_put_2_2 4 rfl rfl)
theorem dJ1_put_2_54 : decode cJ1_put_2 54 = .ok (.aload 4, 2) := dk_25 4 (dk_at dksJ1_put_2_2 7 rfl rfl)
theorem dJ1_put_2_56 : decode cJ1_put_2 56 = .ok (.getfield 111, 3) := dk_180 0 111 (dk_at dksJ1_put_2_2 9 rfl rfl)
theorem dJ1_put_2_59 : decode cJ1_put_2 59 = .ok (.astore 4, 2) := dk_58 4 (dk_at dksJ1_put_2_2 12 rfl rfl)
theorem dJ1_put_2_61 : decode cJ1_put_2 61 = .ok (.goto 43, 3) := dk_167 0 43 (dk_at dksJ1_put_2_2 14 rfl rfl)
theorem dJ1_put_2_64 : decode cJ1_put_2 64 = .ok (.iload 5, 2) := dk_21 5 (dk_at dksJ1_put_2_2 17 rfl rfl)
theorem dJ1_put_2_66 : decode cJ1_put_2 66 = .ok (.ifCond .le 13, 3) := dk_158 0 13 (dk_at dksJ1_put_2_2 19 rfl rfl)
theorem dJ1_put_2_69 : decode cJ1_put_2 69 = .ok (.aload 4, 2) := dk_25 4 (dk_at dksJ1_put_2_2 22 rfl rfl)
theorem dJ1_put_2_71 : decode cJ1_put_2 71 = .ok (.getfield 114, 3) := dk_180 0 114 (dk_at dksJ1_put_2_3 0 rfl rfl)
theorem dJ1_put_2_74 : decode cJ1_put_2 74 = .ok (.astore 4, 2) := dk_58 4 (dk_at dksJ1_put_2_3 3 rfl rfl)
theorem dJ1_put_2_76 : decode cJ1_put_2 76 = .ok (.goto 28, 3) := dk_167 0 28 (dk_at dksJ1_put_2_3 5 rfl rfl)
theorem dJ1_put_2_79 : decode cJ1_put_2 79 = .ok (.aload 4, 2) := dk_25 4 (dk_at dksJ1_put_2_3 8 rfl rfl)
theorem dJ1_put_2_81 : decode cJ1_put_2 81 = .ok (.getfield 58, 3) := dk_180 0 58 (dk_at dksJ1_put_2_3 10 rfl rfl)
theorem dJ1_put_2_84 : decode cJ1_put_2 84 = .ok (.astore 8, 2) := dk_58 8 (dk_at dksJ1_put_2_3 13 rfl rfl)
theorem dJ1_put_2_86 : decode cJ1_put_2 86 = .ok (.iload_n 3, 1) := dk_29 (dk_at dksJ1_put_2_3 15 rfl rfl)
theorem dJ1_put_2_87 : decode cJ1_put_2 87 = .ok (.ifCond .ne 8, 3) := dk_154 0 8 (dk_at dksJ1_put_2_3 16 rfl rfl)
theorem dJ1_put_2_90 : decode cJ1_put_2 90 = .ok (.aload 8, 2) := dk_25 8 (dk_at dksJ1_put_2_3 19 rfl rfl)
theorem dJ1_put_2_92 : decode cJ1_put_2 92 = .ok (.ifnonnull 9, 3) := dk_199 0 9 (dk_at dksJ1_put_2_3 21 rfl rfl)
theorem dJ1_put_2_95 : decode cJ1_put_2 95 = .ok (.aload 4, 2) := dk_25 4 (dk_at dksJ1_put_2_4 0 rfl rfl)
theorem dJ1_put_2_97 : decode cJ1_put_2 97 = .ok (.aload_n 2, 1) := dk_44 (dk_at dksJ1_put_2_4 2 rfl rfl)
theorem dJ1_put_2_98 : decode cJ1_put_2 98 = .ok (.putfield 58, 3) := dk_181 0 58 (dk_at dksJ1_put_2_4 3 rfl rfl)
theorem dJ1_put_2_101 : decode cJ1_put_2 101 = .ok (.aload 8, 2) := dk_25 8 (dk_at dksJ1_put_2_4 6 rfl rfl)
theorem dJ1_put_2_103 : decode cJ1_put_2 103 = .ok (.areturn, 1) := dk_176 (dk_at dksJ1_put_2_4 8 rfl rfl)
theorem dJ1_put_2_104 : decode cJ1_put_2 104 = .ok (.aload 4, 2) := dk_25 4 (dk_at dksJ1_put_2_4 9 rfl rfl)
theorem dJ1_put_2_106 : decode cJ1_put_2 106 = .ok (.ifnonnull (-76), 3) := dk_199 255 180 (dk_at dksJ1_put_2_4 11 rfl rfl)
theorem dJ1_put_2_109 : decode cJ1_put_2 109 = .ok (.goto 92, 3) := dk_167 0 92 (dk_at dksJ1_put_2_4 14 rfl rfl)
theorem dJ1_put_2_112 : decode cJ1_put_2 112 = .ok (.aload_n 1, 1) := dk_43 (dk_at dksJ1_put_2_4 17 rfl rfl)
theorem dJ1_put_2_113 : decode cJ1_put_2 113 = .ok (.invokestatic 95, 3) := dk_184 0 95 (dk_at dksJ1_put_2_4 18 rfl rfl)
theorem dJ1_put_2_116 : decode cJ1_put_2 116 = .ok (.pop, 1) := dk_87 (dk_at dksJ1_put_2_4 21 rfl rfl)
theorem dJ1_put_2_117 : decode cJ1_put_2 117 = .ok (.aload_n 1, 1) := dk_43 (dk_at dksJ1_put_2_4 22 rfl rfl)
theorem dJ1_put_2_118 : decode cJ1_put_2 118 = .ok (.checkcast 99, 3) := dk_192 0 99 (dk_at dksJ1_put_2_5 0 rfl rfl)
theorem dJ1_put_2_121 : decode cJ1_put_2 121 = .ok (.astore 8, 2) := dk_58 8 (dk_at dksJ1_put_2_5 3 rfl rfl)
theorem dJ1_put_2_123 : decode cJ1_put_2 123 = .ok (.aload 4, 2) := dk_25 4 (dk_at dksJ1_put_2_5 5 rfl rfl)
theorem dJ1_put_2_125 : decode cJ1_put_2 125 = .ok (.astore 6, 2) := dk_58 6 (dk_at dksJ1_put_2_5 7 rfl rfl)
theorem dJ1_put_2_127 : decode cJ1_put_2 127 = .ok (.aload 8, 2) := dk_25 8 (dk_at dksJ1_put_2_5 9 rfl rfl)
theorem dJ1_put_2_129 : decode cJ1_put_2 129 = .ok (.aload 4, 2) := dk_25 4 (dk_at dksJ1_put_2_5 11 rfl rfl)
theorem dJ1_put_2_131 : decode cJ1_put_2 131 = .ok (.getfield 105, 3) := dk_180 0 105 (dk_at dksJ1_put_2_5 13 rfl rfl)
theorem dJ1_put_2_134 : decode cJ1_put_2 134 = .ok (.invokeinterface 107 2, 5) := by decide +kernel
theorem dJ1_put_2_139 : decode cJ1_put_2 139 = .ok (.istore 5, 2) := dk_54 5 (dk_at dksJ1_put_2_5 21 rfl rfl)
theorem dJ1_put_2_141 : decode cJ1_put_2 141 = .ok (.iload 5, 2) := dk_21 5 (dk_at dksJ1_put_2_6 0 rfl rfl)
theorem dJ1_put_2_143 : decode cJ1_put_2 143 = .ok (.ifCond .ge 13, 3) := dk_156 0 13 (dk_at dksJ1_put_2_6 2 rfl rfl)
theorem dJ1_put_2_146 : decode cJ1_put_2 146 = .ok (.aload 4, 2) := dk_25 4 (dk_at dksJ1_put_2_6 5 rfl rfl)
theorem dJ1_put_2_148 : decode cJ1_put_2 148 = .ok (.getfield 111, 3) := dk_180 0 111 (dk_at dksJ1_put_2_6 7 rfl rfl)
theorem dJ1_put_2_151 : decode cJ1_put_2 151 = .ok (.astore 4, 2) := dk_58 4 (dk_at dksJ1_put_2_6 10 rfl rfl)
theorem dJ1_put_2_153 : decode cJ1_put_2 153 = .ok (.goto 43, 3) := dk_167 0 43 (dk_at dksJ1_put_2_6 12 rfl rfl)
theorem dJ1_put_2_156 : decode cJ1_put_2 156 = .ok (.iload 5, 2) := dk_21 5 (dk_at dksJ1_put_2_6 15 rfl rfl)
theorem dJ1_put_2_158 : decode cJ1_put_2 158 = .ok (.ifCond .le 13, 3) := dk_158 0 13 (dk_at dksJ1_put_2_6 17 rfl rfl)
theorem dJ1_put_2_161 : decode cJ1_put_2 161 = .ok (.aload 4, 2) := dk_25 4 (dk_at dksJ1_put_2_6 20 rfl rfl)
theorem dJ1_put_2_163 : decode cJ1_put_2 163 = .ok (.getfield 114, 3) := dk_180 0 114 (dk_at dksJ1_put_2_7 0 rfl rfl)
theorem dJ1_put_2_166 : decode cJ1_put_2 166 = .ok (.astore 4, 2) := dk_58 4 (dk_at dksJ1_put_2_7 3 rfl rfl)
theorem dJ1_put_2_168 : decode cJ1_put_2 168 = .ok (.goto 28, 3) := dk_167 0 28 (dk_at dksJ1_put_2_7 5 rfl rfl)
theorem dJ1_put_2_171 : decode cJ1_put_2 171 = .ok (.aload 4, 2) := dk_25 4 (dk_at dksJ1_put_2_7 8 rfl rfl)
theorem dJ1_put_2_173 : decode cJ1_put_2 173 = .ok (.getfield 58, 3) := dk_180 0 58 (dk_at dksJ1_put_2_7 10 rfl rfl)
theorem dJ1_put_2_176 : decode cJ1_put_2 176 = .ok (.astore 9, 2) := dk_58 9 (dk_at dksJ1_put_2_7 13 rfl rfl)
theorem dJ1_put_2_178 : decode cJ1_put_2 178 = .ok (.iload_n 3, 1) := dk_29 (dk_at dksJ1_put_2_7 15 rfl rfl)
theorem dJ1_put_2_179 : decode cJ1_put_2 179 = .ok (.ifCond .ne 8, 3) := dk_154 0 8 (dk_at dksJ1_put_2_7 16 rfl rfl)
theorem dJ1_put_2_182 : decode cJ1_put_2 182 = .ok (.aload 9, 2) := dk_25 9 (dk_at dksJ1_put_2_7 19 rfl rfl)
theorem dJ1_put_2_184 : decode cJ1_put_2 184 = .ok (.ifnonnull 9, 3) := dk_199 0 9 (dk_at dksJ1_put_2_7 21 rfl rfl)
theorem dJ1_put_2_187 : decode cJ1_put_2 187 = .ok (.aload 4, 2) := dk_25 4 (dk_at dksJ1_put_2_8 0 rfl rfl)
theorem dJ1_put_2_189 : decode cJ1_put_2 189 = .ok (.aload_n 2, 1) := dk_44 (dk_at dksJ1_put_2_8 2 rfl rfl)
theorem dJ1_put_2_190 : decode cJ1_put_2 190 = .ok (.putfield 58, 3) := dk_181 0 58 (dk_at dksJ1_put_2_8 3 rfl rfl)
theorem dJ1_put_2_193 : decode cJ1_put_2 193 = .ok (.aload 9, 2) := dk_25 9 (dk_at dksJ1_put_2_8 6 rfl rfl)
theorem dJ1_put_2_195 : decode cJ1_put_2 195 = .ok (.areturn, 1) := dk_176 (dk_at dksJ1_put_2_8 8 rfl rfl)
theorem dJ1_put_2_196 : decode cJ1_put_2 196 = .ok (.aload 4, 2) := dk_25 4 (dk_at dksJ1_put_2_8 9 rfl rfl)
theorem dJ1_put_2_198 : decode cJ1_put_2 198 = .ok (.ifnonnull (-75), 3) := dk_199 255 181 (dk_at dksJ1_put_2_8 11 rfl rfl)
theorem dJ1_put_2_201 : decode cJ1_put_2 201 = .ok (.aload_n 0, 1) := dk_42 (dk_at dksJ1_put_2_8 14 rfl rfl)
theorem dJ1_put_2_202 : decode cJ1_put_2 202 = .ok (.aload_n 1, 1) := dk_43 (dk_at dksJ1_put_2_8 15 rfl rfl)
theorem dJ1_put_2_203 : decode cJ1_put_2 203 = .ok (.aload_n 2, 1) := dk_44 (dk_at dksJ1_put_2_8 16 rfl rfl)
theorem dJ1_put_2_204 : decode cJ1_put_2 204 = .ok (.aload 6, 2) := dk_25 6 (dk_at dksJ1_put_2_8 17 rfl rfl)
theorem dJ1_put_2_206 : decode cJ1_put_2 206 = .ok (.iload 5, 2) := dk_21 5 (dk_at dksJ1_put_2_8 19 rfl rfl)
theorem dJ1_put_2_208 : decode cJ1_put_2 208 = .ok (.ifCond .ge 7, 3) := dk_156 0 7 (dk_at dksJ1_put_2_8 21 rfl rfl)
theorem dJ1_put_2_211 : decode cJ1_put_2 211 = .ok (.iconst 1, 1) := dk_4 (dk_at dksJ1_put_2_9 0 rfl rfl)
theorem dJ1_put_2_212 : decode cJ1_put_2 212 = .ok (.goto 4, 3) := dk_167 0 4 (dk_at dksJ1_put_2_9 1 rfl rfl)
theorem dJ1_put_2_215 : decode cJ1_put_2 215 = .ok (.iconst 0, 1) := dk_3 (dk_at dksJ1_put_2_9 4 rfl rfl)
theorem dJ1_put_2_216 : decode cJ1_put_2 216 = .ok (.invokevirtual 139, 3) := dk_182 0 139 (dk_at dksJ1_put_2_9 5 rfl rfl)
theorem dJ1_put_2_219 : decode cJ1_put_2 219 = .ok (.aconst_null, 1) := dk_1 (dk_at dksJ1_put_2_9 8 rfl rfl)
theorem dJ1_put_2_220 : decode cJ1_put_2 220 = .ok (.areturn, 1) := dk_176 (dk_at dksJ1_put_2_9 9 rfl rfl)
abbrev cJ1_addEntryToEmptyMap : ByteArray := prog_61_method_30_code
def yJ1_addEntryToEmptyMap : MethodName := ⟨RJ1, "addEntryToEmptyMap", "(Ljava/lang/Object;Ljava/lang/Object;)V"⟩
def dkwJ1_addEntryToEmptyMap_1 : List UInt8 := [181, 0, 7, 42, 89, 180, 0, 13, 4, 96, 181, 0, 13, 177]
abbrev dktJ1_addEntryToEmptyMap_1 : List UInt8 := dkwJ1_addEntryToEmptyMap_1 ++ []
def dkwJ1_addEntryToEmptyMap_0 : List UInt8 := [42, 43, 43, 182, 0, 123, 87, 42, 187, 0, 59, 89, 43, 44, 1, 183, 0, 167, 181, 0, 101, 42, 4]
abbrev dktJ1_addEntryToEmptyMap_0 : List UInt8 := dkwJ1_addEntryToEmptyMap_0 ++ dktJ1_addEntryToEmptyMap_1
theorem dksJ1_addEntryToEmptyMap_0 : cJ1_addEntryToEmptyMap.data.toList.drop 0 = dktJ1_addEntryToEmptyMap_0 := by decide +kernel
theorem dksJ1_addEntryToEmptyMap_1 : cJ1_addEntryToEmptyMap.data.toList.drop 23 = dktJ1_addEntryToEmptyMap_1 := dk_seg dksJ1_addEntryToEmptyMap_0 23 rfl rfl
theorem dJ1_addEntryToEmptyMap_0 : decode cJ1_addEntryToEmptyMap 0 = .ok (.aload_n 0, 1) := dk_42 (dk_at dksJ1_addEntryToEmptyMap_0 0 rfl rfl)
theorem dJ1_addEntryToEmptyMap_1 : decode cJ1_addEntryToEmptyMap 1 = .ok (.aload_n 1, 1) := dk_43 (dk_at dksJ1_addEntryToEmptyMap_0 1 rfl rfl)
theorem dJ1_addEntryToEmptyMap_2 : decode cJ1_addEntryToEmptyMap 2 = .ok (.aload_n 1, 1) := dk_43 (dk_at dksJ1_addEntryToEmptyMap_0 2 rfl rfl)
theorem dJ1_addEntryToEmptyMap_3 : decode cJ1_addEntryToEmptyMap 3 = .ok (.invokevirtual 123, 3) := dk_182 0 123 (dk_at dksJ1_addEntryToEmptyMap_0 3 rfl rfl)
theorem dJ1_addEntryToEmptyMap_6 : decode cJ1_addEntryToEmptyMap 6 = .ok (.pop, 1) := dk_87 (dk_at dksJ1_addEntryToEmptyMap_0 6 rfl rfl)
theorem dJ1_addEntryToEmptyMap_7 : decode cJ1_addEntryToEmptyMap 7 = .ok (.aload_n 0, 1) := dk_42 (dk_at dksJ1_addEntryToEmptyMap_0 7 rfl rfl)
theorem dJ1_addEntryToEmptyMap_8 : decode cJ1_addEntryToEmptyMap 8 = .ok (.new 59, 3) := dk_187 0 59 (dk_at dksJ1_addEntryToEmptyMap_0 8 rfl rfl)
theorem dJ1_addEntryToEmptyMap_11 : decode cJ1_addEntryToEmptyMap 11 = .ok (.dup, 1) := dk_89 (dk_at dksJ1_addEntryToEmptyMap_0 11 rfl rfl)
theorem dJ1_addEntryToEmptyMap_12 : decode cJ1_addEntryToEmptyMap 12 = .ok (.aload_n 1, 1) := dk_43 (dk_at dksJ1_addEntryToEmptyMap_0 12 rfl rfl)
theorem dJ1_addEntryToEmptyMap_13 : decode cJ1_addEntryToEmptyMap 13 = .ok (.aload_n 2, 1) := dk_44 (dk_at dksJ1_addEntryToEmptyMap_0 13 rfl rfl)
theorem dJ1_addEntryToEmptyMap_14 : decode cJ1_addEntryToEmptyMap 14 = .ok (.aconst_null, 1) := dk_1 (dk_at dksJ1_addEntryToEmptyMap_0 14 rfl rfl)
theorem dJ1_addEntryToEmptyMap_15 : decode cJ1_addEntryToEmptyMap 15 = .ok (.invokespecial 167, 3) := dk_183 0 167 (dk_at dksJ1_addEntryToEmptyMap_0 15 rfl rfl)
theorem dJ1_addEntryToEmptyMap_18 : decode cJ1_addEntryToEmptyMap 18 = .ok (.putfield 101, 3) := dk_181 0 101 (dk_at dksJ1_addEntryToEmptyMap_0 18 rfl rfl)
theorem dJ1_addEntryToEmptyMap_21 : decode cJ1_addEntryToEmptyMap 21 = .ok (.aload_n 0, 1) := dk_42 (dk_at dksJ1_addEntryToEmptyMap_0 21 rfl rfl)
theorem dJ1_addEntryToEmptyMap_22 : decode cJ1_addEntryToEmptyMap 22 = .ok (.iconst 1, 1) := dk_4 (dk_at dksJ1_addEntryToEmptyMap_0 22 rfl rfl)
theorem dJ1_addEntryToEmptyMap_23 : decode cJ1_addEntryToEmptyMap 23 = .ok (.putfield 7, 3) := dk_181 0 7 (dk_at dksJ1_addEntryToEmptyMap_1 0 rfl rfl)
theorem dJ1_addEntryToEmptyMap_26 : decode cJ1_addEntryToEmptyMap 26 = .ok (.aload_n 0, 1) := dk_42 (dk_at dksJ1_addEntryToEmptyMap_1 3 rfl rfl)
theorem dJ1_addEntryToEmptyMap_27 : decode cJ1_addEntryToEmptyMap 27 = .ok (.dup, 1) := dk_89 (dk_at dksJ1_addEntryToEmptyMap_1 4 rfl rfl)
theorem dJ1_addEntryToEmptyMap_28 : decode cJ1_addEntryToEmptyMap 28 = .ok (.getfield 13, 3) := dk_180 0 13 (dk_at dksJ1_addEntryToEmptyMap_1 5 rfl rfl)
theorem dJ1_addEntryToEmptyMap_31 : decode cJ1_addEntryToEmptyMap 31 = .ok (.iconst 1, 1) := dk_4 (dk_at dksJ1_addEntryToEmptyMap_1 8 rfl rfl)
theorem dJ1_addEntryToEmptyMap_32 : decode cJ1_addEntryToEmptyMap 32 = .ok (.iadd, 1) := dk_96 (dk_at dksJ1_addEntryToEmptyMap_1 9 rfl rfl)
theorem dJ1_addEntryToEmptyMap_33 : decode cJ1_addEntryToEmptyMap 33 = .ok (.putfield 13, 3) := dk_181 0 13 (dk_at dksJ1_addEntryToEmptyMap_1 10 rfl rfl)
theorem dJ1_addEntryToEmptyMap_36 : decode cJ1_addEntryToEmptyMap 36 = .ok (.return_, 1) := dk_177 (dk_at dksJ1_addEntryToEmptyMap_1 13 rfl rfl)
abbrev cJ1_compare : ByteArray := prog_61_method_67_code
def yJ1_compare : MethodName := ⟨RJ1, "compare", "(Ljava/lang/Object;Ljava/lang/Object;)I"⟩
def dkwJ1_compare_1 : List UInt8 := [43, 44, 185, 0, 117, 3, 0, 172]
abbrev dktJ1_compare_1 : List UInt8 := dkwJ1_compare_1 ++ []
def dkwJ1_compare_0 : List UInt8 := [42, 180, 0, 16, 199, 0, 16, 43, 192, 0, 99, 44, 185, 0, 107, 2, 0, 167, 0, 14, 42, 180, 0, 16]
abbrev dktJ1_compare_0 : List UInt8 := dkwJ1_compare_0 ++ dktJ1_compare_1
theorem dksJ1_compare_0 : cJ1_compare.data.toList.drop 0 = dktJ1_compare_0 := by decide +kernel
theorem dksJ1_compare_1 : cJ1_compare.data.toList.drop 24 = dktJ1_compare_1 := dk_seg dksJ1_compare_0 24 rfl rfl
theorem dJ1_compare_0 : decode cJ1_compare 0 = .ok (.aload_n 0, 1) := dk_42 (dk_at dksJ1_compare_0 0 rfl rfl)
theorem dJ1_compare_1 : decode cJ1_compare 1 = .ok (.getfield 16, 3) := dk_180 0 16 (dk_at dksJ1_compare_0 1 rfl rfl)
theorem dJ1_compare_4 : decode cJ1_compare 4 = .ok (.ifnonnull 16, 3) := dk_199 0 16 (dk_at dksJ1_compare_0 4 rfl rfl)
theorem dJ1_compare_7 : decode cJ1_compare 7 = .ok (.aload_n 1, 1) := dk_43 (dk_at dksJ1_compare_0 7 rfl rfl)
theorem dJ1_compare_8 : decode cJ1_compare 8 = .ok (.checkcast 99, 3) := dk_192 0 99 (dk_at dksJ1_compare_0 8 rfl rfl)
theorem dJ1_compare_11 : decode cJ1_compare 11 = .ok (.aload_n 2, 1) := dk_44 (dk_at dksJ1_compare_0 11 rfl rfl)
theorem dJ1_compare_12 : decode cJ1_compare 12 = .ok (.invokeinterface 107 2, 5) := by decide +kernel
theorem dJ1_compare_17 : decode cJ1_compare 17 = .ok (.goto 14, 3) := dk_167 0 14 (dk_at dksJ1_compare_0 17 rfl rfl)
theorem dJ1_compare_20 : decode cJ1_compare 20 = .ok (.aload_n 0, 1) := dk_42 (dk_at dksJ1_compare_0 20 rfl rfl)
theorem dJ1_compare_21 : decode cJ1_compare 21 = .ok (.getfield 16, 3) := dk_180 0 16 (dk_at dksJ1_compare_0 21 rfl rfl)
theorem dJ1_compare_24 : decode cJ1_compare 24 = .ok (.aload_n 1, 1) := dk_43 (dk_at dksJ1_compare_1 0 rfl rfl)
theorem dJ1_compare_25 : decode cJ1_compare 25 = .ok (.aload_n 2, 1) := dk_44 (dk_at dksJ1_compare_1 1 rfl rfl)
theorem dJ1_compare_26 : decode cJ1_compare 26 = .ok (.invokeinterface 117 3, 5) := by decide +kernel
theorem dJ1_compare_31 : decode cJ1_compare 31 = .ok (.ireturn, 1) := dk_172 (dk_at dksJ1_compare_1 7 rfl rfl)
abbrev cJ1_addEntry : ByteArray := prog_61_method_29_code
def yJ1_addEntry : MethodName := ⟨RJ1, "addEntry", "(Ljava/lang/Object;Ljava/lang/Object;Ljava/util/TreeMap$Entry;Z)V"⟩
def dkwJ1_addEntry_2 : List UInt8 := [181, 0, 7, 42, 89, 180, 0, 13, 4, 96, 181, 0, 13, 177]
abbrev dktJ1_addEntry_2 : List UInt8 := dkwJ1_addEntry_2 ++ []
def dkwJ1_addEntry_1 : List UInt8 := [167, 0, 9, 45, 25, 5, 181, 0, 114, 42, 25, 5, 182, 0, 170, 42, 89, 180, 0, 7, 4, 96]
abbrev dktJ1_addEntry_1 : List UInt8 := dkwJ1_addEntry_1 ++ dktJ1_addEntry_2
def dkwJ1_addEntry_0 : List UInt8 := [187, 0, 59, 89, 43, 44, 45, 183, 0, 167, 58, 5, 21, 4, 153, 0, 12, 45, 25, 5, 181, 0, 111]
abbrev dktJ1_addEntry_0 : List UInt8 := dkwJ1_addEntry_0 ++ dktJ1_addEntry_1
theorem dksJ1_addEntry_0 : cJ1_addEntry.data.toList.drop 0 = dktJ1_addEntry_0 := by decide +kernel
theorem dksJ1_addEntry_1 : cJ1_addEntry.data.toList.drop 23 = dktJ1_addEntry_1 := dk_seg dksJ1_addEntry_0 23 rfl rfl
theorem dksJ1_addEntry_2 : cJ1_addEntry.data.toList.drop 45 = dktJ1_addEntry_2 := dk_seg dksJ1_addEntry_1 22 rfl rfl
theorem dJ1_addEntry_0 : decode cJ1_addEntry 0 = .ok (.new 59, 3) := dk_187 0 59 (dk_at dksJ1_addEntry_0 0 rfl rfl)
theorem dJ1_addEntry_3 : decode cJ1_addEntry 3 = .ok (.dup, 1) := dk_89 (dk_at dksJ1_addEntry_0 3 rfl rfl)
theorem dJ1_addEntry_4 : decode cJ1_addEntry 4 = .ok (.aload_n 1, 1) := dk_43 (dk_at dksJ1_addEntry_0 4 rfl rfl)
theorem dJ1_addEntry_5 : decode cJ1_addEntry 5 = .ok (.aload_n 2, 1) := dk_44 (dk_at dksJ1_addEntry_0 5 rfl rfl)
theorem dJ1_addEntry_6 : decode cJ1_addEntry 6 = .ok (.aload_n 3, 1) := dk_45 (dk_at dksJ1_addEntry_0 6 rfl rfl)
theorem dJ1_addEntry_7 : decode cJ1_addEntry 7 = .ok (.invokespecial 167, 3) := dk_183 0 167 (dk_at dksJ1_addEntry_0 7 rfl rfl)
theorem dJ1_addEntry_10 : decode cJ1_addEntry 10 = .ok (.astore 5, 2) := dk_58 5 (dk_at dksJ1_addEntry_0 10 rfl rfl)
theorem dJ1_addEntry_12 : decode cJ1_addEntry 12 = .ok (.iload 4, 2) := dk_21 4 (dk_at dksJ1_addEntry_0 12 rfl rfl)
theorem dJ1_addEntry_14 : decode cJ1_addEntry 14 = .ok (.ifCond .eq 12, 3) := dk_153 0 12 (dk_at dksJ1_addEntry_0 14 rfl rfl)
theorem dJ1_addEntry_17 : decode cJ1_addEntry 17 = .ok (.aload_n 3, 1) := dk_45 (dk_at dksJ1_addEntry_0 17 rfl rfl)
theorem dJ1_addEntry_18 : decode cJ1_addEntry 18 = .ok (.aload 5, 2) := dk_25 5 (dk_at dksJ1_addEntry_0 18 rfl rfl)
theorem dJ1_addEntry_20 : decode cJ1_addEntry 20 = .ok (.putfield 111, 3) := dk_181 0 111 (dk_at dksJ1_addEntry_0 20 rfl rfl)
theorem dJ1_addEntry_23 : decode cJ1_addEntry 23 = .ok (.goto 9, 3) := dk_167 0 9 (dk_at dksJ1_addEntry_1 0 rfl rfl)
theorem dJ1_addEntry_26 : decode cJ1_addEntry 26 = .ok (.aload_n 3, 1) := dk_45 (dk_at dksJ1_addEntry_1 3 rfl rfl)
theorem dJ1_addEntry_27 : decode cJ1_addEntry 27 = .ok (.aload 5, 2) := dk_25 5 (dk_at dksJ1_addEntry_1 4 rfl rfl)
theorem dJ1_addEntry_29 : decode cJ1_addEntry 29 = .ok (.putfield 114, 3) := dk_181 0 114 (dk_at dksJ1_addEntry_1 6 rfl rfl)
theorem dJ1_addEntry_32 : decode cJ1_addEntry 32 = .ok (.aload_n 0, 1) := dk_42 (dk_at dksJ1_addEntry_1 9 rfl rfl)
theorem dJ1_addEntry_33 : decode cJ1_addEntry 33 = .ok (.aload 5, 2) := dk_25 5 (dk_at dksJ1_addEntry_1 10 rfl rfl)
theorem dJ1_addEntry_35 : decode cJ1_addEntry 35 = .ok (.invokevirtual 170, 3) := dk_182 0 170 (dk_at dksJ1_addEntry_1 12 rfl rfl)
theorem dJ1_addEntry_38 : decode cJ1_addEntry 38 = .ok (.aload_n 0, 1) := dk_42 (dk_at dksJ1_addEntry_1 15 rfl rfl)
theorem dJ1_addEntry_39 : decode cJ1_addEntry 39 = .ok (.dup, 1) := dk_89 (dk_at dksJ1_addEntry_1 16 rfl rfl)
theorem dJ1_addEntry_40 : decode cJ1_addEntry 40 = .ok (.getfield 7, 3) := dk_180 0 7 (dk_at dksJ1_addEntry_1 17 rfl rfl)
theorem dJ1_addEntry_43 : decode cJ1_addEntry 43 = .ok (.iconst 1, 1) := dk_4 (dk_at dksJ1_addEntry_1 20 rfl rfl)
theorem dJ1_addEntry_44 : decode cJ1_addEntry 44 = .ok (.iadd, 1) := dk_96 (dk_at dksJ1_addEntry_1 21 rfl rfl)
theorem dJ1_addEntry_45 : decode cJ1_addEntry 45 = .ok (.putfield 7, 3) := dk_181 0 7 (dk_at dksJ1_addEntry_2 0 rfl rfl)
theorem dJ1_addEntry_48 : decode cJ1_addEntry 48 = .ok (.aload_n 0, 1) := dk_42 (dk_at dksJ1_addEntry_2 3 rfl rfl)
theorem dJ1_addEntry_49 : decode cJ1_addEntry 49 = .ok (.dup, 1) := dk_89 (dk_at dksJ1_addEntry_2 4 rfl rfl)
theorem dJ1_addEntry_50 : decode cJ1_addEntry 50 = .ok (.getfield 13, 3) := dk_180 0 13 (dk_at dksJ1_addEntry_2 5 rfl rfl)
theorem dJ1_addEntry_53 : decode cJ1_addEntry 53 = .ok (.iconst 1, 1) := dk_4 (dk_at dksJ1_addEntry_2 8 rfl rfl)
theorem dJ1_addEntry_54 : decode cJ1_addEntry 54 = .ok (.iadd, 1) := dk_96 (dk_at dksJ1_addEntry_2 9 rfl rfl)
theorem dJ1_addEntry_55 : decode cJ1_addEntry 55 = .ok (.putfield 13, 3) := dk_181 0 13 (dk_at dksJ1_addEntry_2 10 rfl rfl)
theorem dJ1_addEntry_58 : decode cJ1_addEntry 58 = .ok (.return_, 1) := dk_177 (dk_at dksJ1_addEntry_2 13 rfl rfl)
abbrev cJ1_fixAfterInsertion : ByteArray := prog_61_method_83_code
def yJ1_fixAfterInsertion : MethodName := ⟨RJ1, "fixAfterInsertion", "(Ljava/util/TreeMap$Entry;)V"⟩
def dkwJ1_fixAfterInsertion_11 : List UInt8 := [42, 180, 0, 101, 4, 181, 1, 34, 177]
abbrev dktJ1_fixAfterInsertion_11 : List UInt8 := dkwJ1_fixAfterInsertion_11 ++ []
def dkwJ1_fixAfterInsertion_10 : List UInt8 := [184, 1, 38, 184, 1, 38, 3, 184, 1, 51, 42, 43, 184, 1, 38, 184, 1, 38, 182, 1, 55, 167, 255, 6]
abbrev dktJ1_fixAfterInsertion_10 : List UInt8 := dkwJ1_fixAfterInsertion_10 ++ dktJ1_fixAfterInsertion_11
def dkwJ1_fixAfterInsertion_9 : List UInt8 := [166, 0, 13, 43, 184, 1, 38, 76, 42, 43, 182, 1, 58, 43, 184, 1, 38, 4, 184, 1, 51, 43]
abbrev dktJ1_fixAfterInsertion_9 : List UInt8 := dkwJ1_fixAfterInsertion_9 ++ dktJ1_fixAfterInsertion_10
def dkwJ1_fixAfterInsertion_8 : List UInt8 := [184, 1, 51, 43, 184, 1, 38, 184, 1, 38, 76, 167, 0, 54, 43, 43, 184, 1, 38, 184, 1, 41]
abbrev dktJ1_fixAfterInsertion_8 : List UInt8 := dkwJ1_fixAfterInsertion_8 ++ dktJ1_fixAfterInsertion_9
def dkwJ1_fixAfterInsertion_7 : List UInt8 := [154, 0, 38, 43, 184, 1, 38, 4, 184, 1, 51, 44, 4, 184, 1, 51, 43, 184, 1, 38, 184, 1, 38, 3]
abbrev dktJ1_fixAfterInsertion_7 : List UInt8 := dkwJ1_fixAfterInsertion_7 ++ dktJ1_fixAfterInsertion_8
def dkwJ1_fixAfterInsertion_6 : List UInt8 := [184, 1, 38, 182, 1, 58, 167, 255, 113, 43, 184, 1, 38, 184, 1, 38, 184, 1, 41, 77, 44, 184, 1, 47]
abbrev dktJ1_fixAfterInsertion_6 : List UInt8 := dkwJ1_fixAfterInsertion_6 ++ dktJ1_fixAfterInsertion_7
def dkwJ1_fixAfterInsertion_5 : List UInt8 := [43, 184, 1, 38, 4, 184, 1, 51, 43, 184, 1, 38, 184, 1, 38, 3, 184, 1, 51, 42, 43, 184, 1, 38]
abbrev dktJ1_fixAfterInsertion_5 : List UInt8 := dkwJ1_fixAfterInsertion_5 ++ dktJ1_fixAfterInsertion_6
def dkwJ1_fixAfterInsertion_4 : List UInt8 := [167, 0, 54, 43, 43, 184, 1, 38, 184, 1, 44, 166, 0, 13, 43, 184, 1, 38, 76, 42, 43, 182, 1, 55]
abbrev dktJ1_fixAfterInsertion_4 : List UInt8 := dkwJ1_fixAfterInsertion_4 ++ dktJ1_fixAfterInsertion_5
def dkwJ1_fixAfterInsertion_3 : List UInt8 := [184, 1, 51, 43, 184, 1, 38, 184, 1, 38, 3, 184, 1, 51, 43, 184, 1, 38, 184, 1, 38, 76]
abbrev dktJ1_fixAfterInsertion_3 : List UInt8 := dkwJ1_fixAfterInsertion_3 ++ dktJ1_fixAfterInsertion_4
def dkwJ1_fixAfterInsertion_2 : List UInt8 := [184, 1, 38, 184, 1, 44, 77, 44, 184, 1, 47, 154, 0, 38, 43, 184, 1, 38, 4, 184, 1, 51, 44, 4]
abbrev dktJ1_fixAfterInsertion_2 : List UInt8 := dkwJ1_fixAfterInsertion_2 ++ dktJ1_fixAfterInsertion_3
def dkwJ1_fixAfterInsertion_1 : List UInt8 := [154, 0, 234, 43, 184, 1, 38, 43, 184, 1, 38, 184, 1, 38, 184, 1, 41, 166, 0, 110, 43, 184, 1, 38]
abbrev dktJ1_fixAfterInsertion_1 : List UInt8 := dkwJ1_fixAfterInsertion_1 ++ dktJ1_fixAfterInsertion_2
def dkwJ1_fixAfterInsertion_0 : List UInt8 := [43, 3, 181, 1, 34, 43, 198, 0, 252, 43, 42, 180, 0, 101, 165, 0, 244, 43, 180, 0, 124, 180, 1, 34]
abbrev dktJ1_fixAfterInsertion_0 : List UInt8 := dkwJ1_fixAfterInsertion_0 ++ dktJ1_fixAfterInsertion_1
theorem dksJ1_fixAfterInsertion_0 : cJ1_fixAfterInsertion.data.toList.drop 0 = dktJ1_fixAfterInsertion_0 := by decide +kernel
theorem dksJ1_fixAfterInsertion_1 : cJ1_fixAfterInsertion.data.toList.drop 24 = dktJ1_fixAfterInsertion_1 := dk_seg dksJ1_fixAfterInsertion_0 24 rfl rfl
theorem dksJ1_fixAfterInsertion_2 : cJ1_fixAfterInsertion.data.toList.drop 48 = dktJ1_fixAfterInsertion_2 := dk_seg dksJ1_fixAfterInsertion_1 24 rfl rfl
theorem dksJ1_fixAfterInsertion_3 : cJ1_fixAfterInsertion.data.toList.drop 72 = dktJ1_fixAfterInsertion_3 := dk_seg dksJ1_fixAfterInsertion_2 24 rfl rfl
theorem dksJ1_fixAfterInsertion_4 : cJ1_fixAfterInsertion.data.toList.drop 94 = dktJ1_fixAfterInsertion_4 := dk_seg dksJ1_fixAfterInsertion_3 22 rfl rfl
theorem dksJ1_fixAfterInsertion_5 : cJ1_fixAfterInsertion.data.toList.drop 118 = dktJ1_fixAfterInsertion_5 := dk_seg dksJ1_fixAfterInsertion_4 24 rfl rfl
theorem dksJ1_fixAfterInsertion_6 : cJ1_fixAfterInsertion.data.toList.drop 142 = dktJ1_fixAfterInsertion_6 := dk_seg dksJ1_fixAfterInsertion_5 24 rfl rfl
theorem dksJ1_fixAfterInsertion_7 : cJ1_fixAfterInsertion.data.toList.drop 166 = dktJ1_fixAfterInsertion_7 := dk_seg dksJ1_fixAfterInsertion_6 24 rfl rfl
theorem dksJ1_fixAfterInsertion_8 : cJ1_fixAfterInsertion.data.toList.drop 190 = dktJ1_fixAfterInsertion_8 := dk_seg dksJ1_fixAfterInsertion_7 24 rfl rfl
theorem dksJ1_fixAfterInsertion_9 : cJ1_fixAfterInsertion.data.toList.drop 212 = dktJ1_fixAfterInsertion_9 := dk_seg dksJ1_fixAfterInsertion_8 22 rfl rfl
theorem dksJ1_fixAfterInsertion_10 : cJ1_fixAfterInsertion.data.toList.drop 234 = dktJ1_fixAfterInsertion_10 := dk_seg dksJ1_fixAfterInsertion_9 22 rfl rfl
theorem dksJ1_fixAfterInsertion_11 : cJ1_fixAfterInsertion.data.toList.drop 258 = dktJ1_fixAfterInsertion_11 := dk_seg dksJ1_fixAfterInsertion_10 24 rfl rfl
theorem dJ1_fixAfterInsertion_0 : decode cJ1_fixAfterInsertion 0 = .ok (.aload_n 1, 1) := dk_43 (dk_at dksJ1_fixAfterInsertion_0 0 rfl rfl)
theorem dJ1_fixAfterInsertion_1 : decode cJ1_fixAfterInsertion 1 = .ok (.iconst 0, 1) := dk_3 (dk_at dksJ1_fixAfterInsertion_0 1 rfl rfl)
theorem dJ1_fixAfterInsertion_2 : decode cJ1_fixAfterInsertion 2 = .ok (.putfield 290, 3) := dk_181 1 34 (dk_at dksJ1_fixAfterInsertion_0 2 rfl rfl)
theorem dJ1_fixAfterInsertion_5 : decode cJ1_fixAfterInsertion 5 = .ok (.aload_n 1, 1) := dk_43 (dk_at dksJ1_fixAfterInsertion_0 5 rfl rfl)
theorem dJ1_fixAfterInsertion_6 : decode cJ1_fixAfterInsertion 6 = .ok (.ifnull 252, 3) := dk_198 0 252 (dk_at dksJ1_fixAfterInsertion_0 6 rfl rfl)
theorem dJ1_fixAfterInsertion_9 : decode cJ1_fixAfterInsertion 9 = .ok (.aload_n 1, 1) := dk_43 (dk_at dksJ1_fixAfterInsertion_0 9 rfl rfl)
theorem dJ1_fixAfterInsertion_10 : decode cJ1_fixAfterInsertion 10 = .ok (.aload_n 0, 1) := dk_42 (dk_at dksJ1_fixAfterInsertion_0 10 rfl rfl)
theorem dJ1_fixAfterInsertion_11 : decode cJ1_fixAfterInsertion 11 = .ok (.getfield 101, 3) := dk_180 0 101 (dk_at dksJ1_fixAfterInsertion_0 11 rfl rfl)
theorem dJ1_fixAfterInsertion_14 : decode cJ1_fixAfterInsertion 14 = .ok (.if_acmp .eq 244, 3) := dk_165 0 244 (dk_at dksJ1_fixAfterInsertion_0 14 rfl rfl)
theorem dJ1_fixAfterInsertion_17 : decode cJ1_fixAfterInsertion 17 = .ok (.aload_n 1, 1) := dk_43 (dk_at dksJ1_fixAfterInsertion_0 17 rfl rfl)
theorem dJ1_fixAfterInsertion_18 : decode cJ1_fixAfterInsertion 18 = .ok (.getfield 124, 3) := dk_180 0 124 (dk_at dksJ1_fixAfterInsertion_0 18 rfl rfl)
theorem dJ1_fixAfterInsertion_21 : decode cJ1_fixAfterInsertion 21 = .ok (.getfield 290, 3) := dk_180 1 34 (dk_at dksJ1_fixAfterInsertion_0 21 rfl rfl)
theorem dJ1_fixAfterInsertion_24 : decode cJ1_fixAfterInsertion 24 = .ok (.ifCond .ne 234, 3) := dk_154 0 234 (dk_at dksJ1_fixAfterInsertion_1 0 rfl rfl)
theorem dJ1_fixAfterInsertion_27 : decode cJ1_fixAfterInsertion 27 = .ok (.aload_n 1, 1) := dk_43 (dk_at dksJ1_fixAfterInsertion_1 3 rfl rfl)
theorem dJ1_fixAfterInsertion_28 : decode cJ1_fixAfterInsertion 28 = .ok (.invokestatic 294, 3) := dk_184 1 38 (dk_at dksJ1_fixAfterInsertion_1 4 rfl rfl)
theorem dJ1_fixAfterInsertion_31 : decode cJ1_fixAfterInsertion 31 = .ok (.aload_n 1, 1) := dk_43 (dk_at dksJ1_fixAfterInsertion_1 7 rfl rfl)
theorem dJ1_fixAfterInsertion_32 : decode cJ1_fixAfterInsertion 32 = .ok (.invokestatic 294, 3) := dk_184 1 38 (dk_at dksJ1_fixAfterInsertion_1 8 rfl rfl)
theorem dJ1_fixAfterInsertion_35 : decode cJ1_fixAfterInsertion 35 = .ok (.invokestatic 294, 3) := dk_184 1 38 (dk_at dksJ1_fixAfterInsertion_1 11 rfl rfl)
theorem dJ1_fixAfterInsertion_38 : decode cJ1_fixAfterInsertion 38 = .ok (.invokestatic 297, 3) := dk_184 1 41 (dk_at dksJ1_fixAfterInsertion_1 14 rfl rfl)
theorem dJ1_fixAfterInsertion_41 : decode cJ1_fixAfterInsertion 41 = .ok (.if_acmp .ne 110, 3) := dk_166 0 110 (dk_at dksJ1_fixAfterInsertion_1 17 rfl rfl)
theorem dJ1_fixAfterInsertion_44 : decode cJ1_fixAfterInsertion 44 = .ok (.aload_n 1, 1) := dk_43 (dk_at dksJ1_fixAfterInsertion_1 20 rfl rfl)
theorem dJ1_fixAfterInsertion_45 : decode cJ1_fixAfterInsertion 45 = .ok (.invokestatic 294, 3) := dk_184 1 38 (dk_at dksJ1_fixAfterInsertion_1 21 rfl rfl)
theorem dJ1_fixAfterInsertion_48 : decode cJ1_fixAfterInsertion 48 = .ok (.invokestatic 294, 3) := dk_184 1 38 (dk_at dksJ1_fixAfterInsertion_2 0 rfl rfl)
theorem dJ1_fixAfterInsertion_51 : decode cJ1_fixAfterInsertion 51 = .ok (.invokestatic 300, 3) := dk_184 1 44 (dk_at dksJ1_fixAfterInsertion_2 3 rfl rfl)
theorem dJ1_fixAfterInsertion_54 : decode cJ1_fixAfterInsertion 54 = .ok (.astore_n 2, 1) := dk_77 (dk_at dksJ1_fixAfterInsertion_2 6 rfl rfl)
theorem dJ1_fixAfterInsertion_55 : decode cJ1_fixAfterInsertion 55 = .ok (.aload_n 2, 1) := dk_44 (dk_at dksJ1_fixAfterInsertion_2 7 rfl rfl)
theorem dJ1_fixAfterInsertion_56 : decode cJ1_fixAfterInsertion 56 = .ok (.invokestatic 303, 3) := dk_184 1 47 (dk_at dksJ1_fixAfterInsertion_2 8 rfl rfl)
theorem dJ1_fixAfterInsertion_59 : decode cJ1_fixAfterInsertion 59 = .ok (.ifCond .ne 38, 3) := dk_154 0 38 (dk_at dksJ1_fixAfterInsertion_2 11 rfl rfl)
theorem dJ1_fixAfterInsertion_62 : decode cJ1_fixAfterInsertion 62 = .ok (.aload_n 1, 1) := dk_43 (dk_at dksJ1_fixAfterInsertion_2 14 rfl rfl)
theorem dJ1_fixAfterInsertion_63 : decode cJ1_fixAfterInsertion 63 = .ok (.invokestatic 294, 3) := dk_184 1 38 (dk_at dksJ1_fixAfterInsertion_2 15 rfl rfl)
theorem dJ1_fixAfterInsertion_66 : decode cJ1_fixAfterInsertion 66 = .ok (.iconst 1, 1) := dk_4 (dk_at dksJ1_fixAfterInsertion_2 18 rfl rfl)
theorem dJ1_fixAfterInsertion_67 : decode cJ1_fixAfterInsertion 67 = .ok (.invokestatic 307, 3) := dk_184 1 51 (dk_at dksJ1_fixAfterInsertion_2 19 rfl rfl)
theorem dJ1_fixAfterInsertion_70 : decode cJ1_fixAfterInsertion 70 = .ok (.aload_n 2, 1) := dk_44 (dk_at dksJ1_fixAfterInsertion_2 22 rfl rfl)
theorem dJ1_fixAfterInsertion_71 : decode cJ1_fixAfterInsertion 71 = .ok (.iconst 1, 1) := dk_4 (dk_at dksJ1_fixAfterInsertion_2 23 rfl rfl)
theorem dJ1_fixAfterInsertion_72 : decode cJ1_fixAfterInsertion 72 = .ok (.invokestatic 307, 3) := dk_184 1 51 (dk_at dksJ1_fixAfterInsertion_3 0 rfl rfl)
theorem dJ1_fixAfterInsertion_75 : decode cJ1_fixAfterInsertion 75 = .ok (.aload_n 1, 1) := dk_43 (dk_at dksJ1_fixAfterInsertion_3 3 rfl rfl)
theorem dJ1_fixAfterInsertion_76 : decode cJ1_fixAfterInsertion 76 = .ok (.invokestatic 294, 3) := dk_184 1 38 (dk_at dksJ1_fixAfterInsertion_3 4 rfl rfl)
theorem dJ1_fixAfterInsertion_79 : decode cJ1_fixAfterInsertion 79 = .ok (.invokestatic 294, 3) := dk_184 1 38 (dk_at dksJ1_fixAfterInsertion_3 7 rfl rfl)
theorem dJ1_fixAfterInsertion_82 : decode cJ1_fixAfterInsertion 82 = .ok (.iconst 0, 1) := dk_3 (dk_at dksJ1_fixAfterInsertion_3 10 rfl rfl)
theorem dJ1_fixAfterInsertion_83 : decode cJ1_fixAfterInsertion 83 = .ok (.invokestatic 307, 3) := dk_184 1 51 (dk_at dksJ1_fixAfterInsertion_3 11 rfl rfl)
theorem dJ1_fixAfterInsertion_86 : decode cJ1_fixAfterInsertion 86 = .ok (.aload_n 1, 1) := dk_43 (dk_at dksJ1_fixAfterInsertion_3 14 rfl rfl)
theorem dJ1_fixAfterInsertion_87 : decode cJ1_fixAfterInsertion 87 = .ok (.invokestatic 294, 3) := dk_184 1 38 (dk_at dksJ1_fixAfterInsertion_3 15 rfl rfl)
theorem dJ1_fixAfterInsertion_90 : decode cJ1_fixAfterInsertion 90 = .ok (.invokestatic 294, 3) := dk_184 1 38 (dk_at dksJ1_fixAfterInsertion_3 18 rfl rfl)
theorem dJ1_fixAfterInsertion_93 : decode cJ1_fixAfterInsertion 93 = .ok (.astore_n 1, 1) := dk_76 (dk_at dksJ1_fixAfterInsertion_3 21 rfl rfl)
theorem dJ1_fixAfterInsertion_94 : decode cJ1_fixAfterInsertion 94 = .ok (.goto 54, 3) := dk_167 0 54 (dk_at dksJ1_fixAfterInsertion_4 0 rfl rfl)
theorem dJ1_fixAfterInsertion_97 : decode cJ1_fixAfterInsertion 97 = .ok (.aload_n 1, 1) := dk_43 (dk_at dksJ1_fixAfterInsertion_4 3 rfl rfl)
theorem dJ1_fixAfterInsertion_98 : decode cJ1_fixAfterInsertion 98 = .ok (.aload_n 1, 1) := dk_43 (dk_at dksJ1_fixAfterInsertion_4 4 rfl rfl)
theorem dJ1_fixAfterInsertion_99 : decode cJ1_fixAfterInsertion 99 = .ok (.invokestatic 294, 3) := dk_184 1 38 (dk_at dksJ1_fixAfterInsertion_4 5 rfl rfl)
theorem dJ1_fixAfterInsertion_102 : decode cJ1_fixAfterInsertion 102 = .ok (.invokestatic 300, 3) := dk_184 1 44 (dk_at dksJ1_fixAfterInsertion_4 8 rfl rfl)
theorem dJ1_fixAfterInsertion_105 : decode cJ1_fixAfterInsertion 105 = .ok (.if_acmp .ne 13, 3) := dk_166 0 13 (dk_at dksJ1_fixAfterInsertion_4 11 rfl rfl)
theorem dJ1_fixAfterInsertion_108 : decode cJ1_fixAfterInsertion 108 = .ok (.aload_n 1, 1) := dk_43 (dk_at dksJ1_fixAfterInsertion_4 14 rfl rfl)
theorem dJ1_fixAfterInsertion_109 : decode cJ1_fixAfterInsertion 109 = .ok (.invokestatic 294, 3) := dk_184 1 38 (dk_at dksJ1_fixAfterInsertion_4 15 rfl rfl)
theorem dJ1_fixAfterInsertion_112 : decode cJ1_fixAfterInsertion 112 = .ok (.astore_n 1, 1) := dk_76 (dk_at dksJ1_fixAfterInsertion_4 18 rfl rfl)
theorem dJ1_fixAfterInsertion_113 : decode cJ1_fixAfterInsertion 113 = .ok (.aload_n 0, 1) := dk_42 (dk_at dksJ1_fixAfterInsertion_4 19 rfl rfl)
theorem dJ1_fixAfterInsertion_114 : decode cJ1_fixAfterInsertion 114 = .ok (.aload_n 1, 1) := dk_43 (dk_at dksJ1_fixAfterInsertion_4 20 rfl rfl)
theorem dJ1_fixAfterInsertion_115 : decode cJ1_fixAfterInsertion 115 = .ok (.invokevirtual 311, 3) := dk_182 1 55 (dk_at dksJ1_fixAfterInsertion_4 21 rfl rfl)
theorem dJ1_fixAfterInsertion_118 : decode cJ1_fixAfterInsertion 118 = .ok (.aload_n 1, 1) := dk_43 (dk_at dksJ1_fixAfterInsertion_5 0 rfl rfl)
theorem dJ1_fixAfterInsertion_119 : decode cJ1_fixAfterInsertion 119 = .ok (.invokestatic 294, 3) := dk_184 1 38 (dk_at dksJ1_fixAfterInsertion_5 1 rfl rfl)
theorem dJ1_fixAfterInsertion_122 : decode cJ1_fixAfterInsertion 122 = .ok (.iconst 1, 1) := dk_4 (dk_at dksJ1_fixAfterInsertion_5 4 rfl rfl)
theorem dJ1_fixAfterInsertion_123 : decode cJ1_fixAfterInsertion 123 = .ok (.invokestatic 307, 3) := dk_184 1 51 (dk_at dksJ1_fixAfterInsertion_5 5 rfl rfl)
theorem dJ1_fixAfterInsertion_126 : decode cJ1_fixAfterInsertion 126 = .ok (.aload_n 1, 1) := dk_43 (dk_at dksJ1_fixAfterInsertion_5 8 rfl rfl)
theorem dJ1_fixAfterInsertion_127 : decode cJ1_fixAfterInsertion 127 = .ok (.invokestatic 294, 3) := dk_184 1 38 (dk_at dksJ1_fixAfterInsertion_5 9 rfl rfl)
theorem dJ1_fixAfterInsertion_130 : decode cJ1_fixAfterInsertion 130 = .ok (.invokestatic 294, 3) := dk_184 1 38 (dk_at dksJ1_fixAfterInsertion_5 12 rfl rfl)
theorem dJ1_fixAfterInsertion_133 : decode cJ1_fixAfterInsertion 133 = .ok (.iconst 0, 1) := dk_3 (dk_at dksJ1_fixAfterInsertion_5 15 rfl rfl)
theorem dJ1_fixAfterInsertion_134 : decode cJ1_fixAfterInsertion 134 = .ok (.invokestatic 307, 3) := dk_184 1 51 (dk_at dksJ1_fixAfterInsertion_5 16 rfl rfl)
theorem dJ1_fixAfterInsertion_137 : decode cJ1_fixAfterInsertion 137 = .ok (.aload_n 0, 1) := dk_42 (dk_at dksJ1_fixAfterInsertion_5 19 rfl rfl)
theorem dJ1_fixAfterInsertion_138 : decode cJ1_fixAfterInsertion 138 = .ok (.aload_n 1, 1) := dk_43 (dk_at dksJ1_fixAfterInsertion_5 20 rfl rfl)
theorem dJ1_fixAfterInsertion_139 : decode cJ1_fixAfterInsertion 139 = .ok (.invokestatic 294, 3) := dk_184 1 38 (dk_at dksJ1_fixAfterInsertion_5 21 rfl rfl)
theorem dJ1_fixAfterInsertion_142 : decode cJ1_fixAfterInsertion 142 = .ok (.invokestatic 294, 3) := dk_184 1 38 (dk_at dksJ1_fixAfterInsertion_6 0 rfl rfl)
theorem dJ1_fixAfterInsertion_145 : decode cJ1_fixAfterInsertion 145 = .ok (.invokevirtual 314, 3) := dk_182 1 58 (dk_at dksJ1_fixAfterInsertion_6 3 rfl rfl)
theorem dJ1_fixAfterInsertion_148 : decode cJ1_fixAfterInsertion 148 = .ok (.goto (-143), 3) := dk_167 255 113 (dk_at dksJ1_fixAfterInsertion_6 6 rfl rfl)
theorem dJ1_fixAfterInsertion_151 : decode cJ1_fixAfterInsertion 151 = .ok (.aload_n 1, 1) := dk_43 (dk_at dksJ1_fixAfterInsertion_6 9 rfl rfl)
theorem dJ1_fixAfterInsertion_152 : decode cJ1_fixAfterInsertion 152 = .ok (.invokestatic 294, 3) := dk_184 1 38 (dk_at dksJ1_fixAfterInsertion_6 10 rfl rfl)
theorem dJ1_fixAfterInsertion_155 : decode cJ1_fixAfterInsertion 155 = .ok (.invokestatic 294, 3) := dk_184 1 38 (dk_at dksJ1_fixAfterInsertion_6 13 rfl rfl)
theorem dJ1_fixAfterInsertion_158 : decode cJ1_fixAfterInsertion 158 = .ok (.invokestatic 297, 3) := dk_184 1 41 (dk_at dksJ1_fixAfterInsertion_6 16 rfl rfl)
theorem dJ1_fixAfterInsertion_161 : decode cJ1_fixAfterInsertion 161 = .ok (.astore_n 2, 1) := dk_77 (dk_at dksJ1_fixAfterInsertion_6 19 rfl rfl)
theorem dJ1_fixAfterInsertion_162 : decode cJ1_fixAfterInsertion 162 = .ok (.aload_n 2, 1) := dk_44 (dk_at dksJ1_fixAfterInsertion_6 20 rfl rfl)
theorem dJ1_fixAfterInsertion_163 : decode cJ1_fixAfterInsertion 163 = .ok (.invokestatic 303, 3) := dk_184 1 47 (dk_at dksJ1_fixAfterInsertion_6 21 rfl rfl)
theorem dJ1_fixAfterInsertion_166 : decode cJ1_fixAfterInsertion 166 = .ok (.ifCond .ne 38, 3) := dk_154 0 38 (dk_at dksJ1_fixAfterInsertion_7 0 rfl rfl)
theorem dJ1_fixAfterInsertion_169 : decode cJ1_fixAfterInsertion 169 = .ok (.aload_n 1, 1) := dk_43 (dk_at dksJ1_fixAfterInsertion_7 3 rfl rfl)
theorem dJ1_fixAfterInsertion_170 : decode cJ1_fixAfterInsertion 170 = .ok (.invokestatic 294, 3) := dk_184 1 38 (dk_at dksJ1_fixAfterInsertion_7 4 rfl rfl)
theorem dJ1_fixAfterInsertion_173 : decode cJ1_fixAfterInsertion 173 = .ok (.iconst 1, 1) := dk_4 (dk_at dksJ1_fixAfterInsertion_7 7 rfl rfl)
theorem dJ1_fixAfterInsertion_174 : decode cJ1_fixAfterInsertion 174 = .ok (.invokestatic 307, 3) := dk_184 1 51 (dk_at dksJ1_fixAfterInsertion_7 8 rfl rfl)
theorem dJ1_fixAfterInsertion_177 : decode cJ1_fixAfterInsertion 177 = .ok (.aload_n 2, 1) := dk_44 (dk_at dksJ1_fixAfterInsertion_7 11 rfl rfl)
theorem dJ1_fixAfterInsertion_178 : decode cJ1_fixAfterInsertion 178 = .ok (.iconst 1, 1) := dk_4 (dk_at dksJ1_fixAfterInsertion_7 12 rfl rfl)
theorem dJ1_fixAfterInsertion_179 : decode cJ1_fixAfterInsertion 179 = .ok (.invokestatic 307, 3) := dk_184 1 51 (dk_at dksJ1_fixAfterInsertion_7 13 rfl rfl)
theorem dJ1_fixAfterInsertion_182 : decode cJ1_fixAfterInsertion 182 = .ok (.aload_n 1, 1) := dk_43 (dk_at dksJ1_fixAfterInsertion_7 16 rfl rfl)
theorem dJ1_fixAfterInsertion_183 : decode cJ1_fixAfterInsertion 183 = .ok (.invokestatic 294, 3) := dk_184 1 38 (dk_at dksJ1_fixAfterInsertion_7 17 rfl rfl)
theorem dJ1_fixAfterInsertion_186 : decode cJ1_fixAfterInsertion 186 = .ok (.invokestatic 294, 3) := dk_184 1 38 (dk_at dksJ1_fixAfterInsertion_7 20 rfl rfl)
theorem dJ1_fixAfterInsertion_189 : decode cJ1_fixAfterInsertion 189 = .ok (.iconst 0, 1) := dk_3 (dk_at dksJ1_fixAfterInsertion_7 23 rfl rfl)
theorem dJ1_fixAfterInsertion_190 : decode cJ1_fixAfterInsertion 190 = .ok (.invokestatic 307, 3) := dk_184 1 51 (dk_at dksJ1_fixAfterInsertion_8 0 rfl rfl)
theorem dJ1_fixAfterInsertion_193 : decode cJ1_fixAfterInsertion 193 = .ok (.aload_n 1, 1) := dk_43 (dk_at dksJ1_fixAfterInsertion_8 3 rfl rfl)
theorem dJ1_fixAfterInsertion_194 : decode cJ1_fixAfterInsertion 194 = .ok (.invokestatic 294, 3) := dk_184 1 38 (dk_at dksJ1_fixAfterInsertion_8 4 rfl rfl)
theorem dJ1_fixAfterInsertion_197 : decode cJ1_fixAfterInsertion 197 = .ok (.invokestatic 294, 3) := dk_184 1 38 (dk_at dksJ1_fixAfterInsertion_8 7 rfl rfl)
theorem dJ1_fixAfterInsertion_200 : decode cJ1_fixAfterInsertion 200 = .ok (.astore_n 1, 1) := dk_76 (dk_at dksJ1_fixAfterInsertion_8 10 rfl rfl)
theorem dJ1_fixAfterInsertion_201 : decode cJ1_fixAfterInsertion 201 = .ok (.goto 54, 3) := dk_167 0 54 (dk_at dksJ1_fixAfterInsertion_8 11 rfl rfl)
theorem dJ1_fixAfterInsertion_204 : decode cJ1_fixAfterInsertion 204 = .ok (.aload_n 1, 1) := dk_43 (dk_at dksJ1_fixAfterInsertion_8 14 rfl rfl)
theorem dJ1_fixAfterInsertion_205 : decode cJ1_fixAfterInsertion 205 = .ok (.aload_n 1, 1) := dk_43 (dk_at dksJ1_fixAfterInsertion_8 15 rfl rfl)
theorem dJ1_fixAfterInsertion_206 : decode cJ1_fixAfterInsertion 206 = .ok (.invokestatic 294, 3) := dk_184 1 38 (dk_at dksJ1_fixAfterInsertion_8 16 rfl rfl)
theorem dJ1_fixAfterInsertion_209 : decode cJ1_fixAfterInsertion 209 = .ok (.invokestatic 297, 3) := dk_184 1 41 (dk_at dksJ1_fixAfterInsertion_8 19 rfl rfl)
theorem dJ1_fixAfterInsertion_212 : decode cJ1_fixAfterInsertion 212 = .ok (.if_acmp .ne 13, 3) := dk_166 0 13 (dk_at dksJ1_fixAfterInsertion_9 0 rfl rfl)
theorem dJ1_fixAfterInsertion_215 : decode cJ1_fixAfterInsertion 215 = .ok (.aload_n 1, 1) := dk_43 (dk_at dksJ1_fixAfterInsertion_9 3 rfl rfl)
theorem dJ1_fixAfterInsertion_216 : decode cJ1_fixAfterInsertion 216 = .ok (.invokestatic 294, 3) := dk_184 1 38 (dk_at dksJ1_fixAfterInsertion_9 4 rfl rfl)
theorem dJ1_fixAfterInsertion_219 : decode cJ1_fixAfterInsertion 219 = .ok (.astore_n 1, 1) := dk_76 (dk_at dksJ1_fixAfterInsertion_9 7 rfl rfl)
theorem dJ1_fixAfterInsertion_220 : decode cJ1_fixAfterInsertion 220 = .ok (.aload_n 0, 1) := dk_42 (dk_at dksJ1_fixAfterInsertion_9 8 rfl rfl)
theorem dJ1_fixAfterInsertion_221 : decode cJ1_fixAfterInsertion 221 = .ok (.aload_n 1, 1) := dk_43 (dk_at dksJ1_fixAfterInsertion_9 9 rfl rfl)
theorem dJ1_fixAfterInsertion_222 : decode cJ1_fixAfterInsertion 222 = .ok (.invokevirtual 314, 3) := dk_182 1 58 (dk_at dksJ1_fixAfterInsertion_9 10 rfl rfl)
theorem dJ1_fixAfterInsertion_225 : decode cJ1_fixAfterInsertion 225 = .ok (.aload_n 1, 1) := dk_43 (dk_at dksJ1_fixAfterInsertion_9 13 rfl rfl)
theorem dJ1_fixAfterInsertion_226 : decode cJ1_fixAfterInsertion 226 = .ok (.invokestatic 294, 3) := dk_184 1 38 (dk_at dksJ1_fixAfterInsertion_9 14 rfl rfl)
theorem dJ1_fixAfterInsertion_229 : decode cJ1_fixAfterInsertion 229 = .ok (.iconst 1, 1) := dk_4 (dk_at dksJ1_fixAfterInsertion_9 17 rfl rfl)
theorem dJ1_fixAfterInsertion_230 : decode cJ1_fixAfterInsertion 230 = .ok (.invokestatic 307, 3) := dk_184 1 51 (dk_at dksJ1_fixAfterInsertion_9 18 rfl rfl)
theorem dJ1_fixAfterInsertion_233 : decode cJ1_fixAfterInsertion 233 = .ok (.aload_n 1, 1) := dk_43 (dk_at dksJ1_fixAfterInsertion_9 21 rfl rfl)
theorem dJ1_fixAfterInsertion_234 : decode cJ1_fixAfterInsertion 234 = .ok (.invokestatic 294, 3) := dk_184 1 38 (dk_at dksJ1_fixAfterInsertion_10 0 rfl rfl)
theorem dJ1_fixAfterInsertion_237 : decode cJ1_fixAfterInsertion 237 = .ok (.invokestatic 294, 3) := dk_184 1 38 (dk_at dksJ1_fixAfterInsertion_10 3 rfl rfl)
theorem dJ1_fixAfterInsertion_240 : decode cJ1_fixAfterInsertion 240 = .ok (.iconst 0, 1) := dk_3 (dk_at dksJ1_fixAfterInsertion_10 6 rfl rfl)
theorem dJ1_fixAfterInsertion_241 : decode cJ1_fixAfterInsertion 241 = .ok (.invokestatic 307, 3) := dk_184 1 51 (dk_at dksJ1_fixAfterInsertion_10 7 rfl rfl)
theorem dJ1_fixAfterInsertion_244 : decode cJ1_fixAfterInsertion 244 = .ok (.aload_n 0, 1) := dk_42 (dk_at dksJ1_fixAfterInsertion_10 10 rfl rfl)
theorem dJ1_fixAfterInsertion_245 : decode cJ1_fixAfterInsertion 245 = .ok (.aload_n 1, 1) := dk_43 (dk_at dksJ1_fixAfterInsertion_10 11 rfl rfl)
theorem dJ1_fixAfterInsertion_246 : decode cJ1_fixAfterInsertion 246 = .ok (.invokestatic 294, 3) := dk_184 1 38 (dk_at dksJ1_fixAfterInsertion_10 12 rfl rfl)
theorem dJ1_fixAfterInsertion_249 : decode cJ1_fixAfterInsertion 249 = .ok (.invokestatic 294, 3) := dk_184 1 38 (dk_at dksJ1_fixAfterInsertion_10 15 rfl rfl)
theorem dJ1_fixAfterInsertion_252 : decode cJ1_fixAfterInsertion 252 = .ok (.invokevirtual 311, 3) := dk_182 1 55 (dk_at dksJ1_fixAfterInsertion_10 18 rfl rfl)
theorem dJ1_fixAfterInsertion_255 : decode cJ1_fixAfterInsertion 255 = .ok (.goto (-250), 3) := dk_167 255 6 (dk_at dksJ1_fixAfterInsertion_10 21 rfl rfl)
theorem dJ1_fixAfterInsertion_258 : decode cJ1_fixAfterInsertion 258 = .ok (.aload_n 0, 1) := dk_42 (dk_at dksJ1_fixAfterInsertion_11 0 rfl rfl)
theorem dJ1_fixAfterInsertion_259 : decode cJ1_fixAfterInsertion 259 = .ok (.getfield 101, 3) := dk_180 0 101 (dk_at dksJ1_fixAfterInsertion_11 1 rfl rfl)
theorem dJ1_fixAfterInsertion_262 : decode cJ1_fixAfterInsertion 262 = .ok (.iconst 1, 1) := dk_4 (dk_at dksJ1_fixAfterInsertion_11 4 rfl rfl)
theorem dJ1_fixAfterInsertion_263 : decode cJ1_fixAfterInsertion 263 = .ok (.putfield 290, 3) := dk_181 1 34 (dk_at dksJ1_fixAfterInsertion_11 5 rfl rfl)
theorem dJ1_fixAfterInsertion_266 : decode cJ1_fixAfterInsertion 266 = .ok (.return_, 1) := dk_177 (dk_at dksJ1_fixAfterInsertion_11 8 rfl rfl)
abbrev cJ1_parentOf : ByteArray := prog_61_method_77_code
def yJ1_parentOf : MethodName := ⟨RJ1, "parentOf", "(Ljava/util/TreeMap$Entry;)Ljava/util/TreeMap$Entry;"⟩
def dkwJ1_parentOf_0 : List UInt8 := [42, 199, 0, 7, 1, 167, 0, 7, 42, 180, 0, 124, 176]
abbrev dktJ1_parentOf_0 : List UInt8 := dkwJ1_parentOf_0 ++ []
theorem dksJ1_parentOf_0 : cJ1_parentOf.data.toList.drop 0 = dktJ1_parentOf_0 := by decide +kernel
theorem dJ1_parentOf_0 : decode cJ1_parentOf 0 = .ok (.aload_n 0, 1) := dk_42 (dk_at dksJ1_parentOf_0 0 rfl rfl)
theorem dJ1_parentOf_1 : decode cJ1_parentOf 1 = .ok (.ifnonnull 7, 3) := dk_199 0 7 (dk_at dksJ1_parentOf_0 1 rfl rfl)
theorem dJ1_parentOf_4 : decode cJ1_parentOf 4 = .ok (.aconst_null, 1) := dk_1 (dk_at dksJ1_parentOf_0 4 rfl rfl)
theorem dJ1_parentOf_5 : decode cJ1_parentOf 5 = .ok (.goto 7, 3) := dk_167 0 7 (dk_at dksJ1_parentOf_0 5 rfl rfl)
theorem dJ1_parentOf_8 : decode cJ1_parentOf 8 = .ok (.aload_n 0, 1) := dk_42 (dk_at dksJ1_parentOf_0 8 rfl rfl)
theorem dJ1_parentOf_9 : decode cJ1_parentOf 9 = .ok (.getfield 124, 3) := dk_180 0 124 (dk_at dksJ1_parentOf_0 9 rfl rfl)
theorem dJ1_parentOf_12 : decode cJ1_parentOf 12 = .ok (.areturn, 1) := dk_176 (dk_at dksJ1_parentOf_0 12 rfl rfl)
abbrev cJ1_leftOf : ByteArray := prog_61_method_79_code
def yJ1_leftOf : MethodName := ⟨RJ1, "leftOf", "(Ljava/util/TreeMap$Entry;)Ljava/util/TreeMap$Entry;"⟩
def dkwJ1_leftOf_0 : List UInt8 := [42, 199, 0, 7, 1, 167, 0, 7, 42, 180, 0, 111, 176]
abbrev dktJ1_leftOf_0 : List UInt8 := dkwJ1_leftOf_0 ++ []
theorem dksJ1_leftOf_0 : cJ1_leftOf.data.toList.drop 0 = dktJ1_leftOf_0 := by decide +kernel
theorem dJ1_leftOf_0 : decode cJ1_leftOf 0 = .ok (.aload_n 0, 1) := dk_42 (dk_at dksJ1_leftOf_0 0 rfl rfl)
theorem dJ1_leftOf_1 : decode cJ1_leftOf 1 = .ok (.ifnonnull 7, 3) := dk_199 0 7 (dk_at dksJ1_leftOf_0 1 rfl rfl)
theorem dJ1_leftOf_4 : decode cJ1_leftOf 4 = .ok (.aconst_null, 1) := dk_1 (dk_at dksJ1_leftOf_0 4 rfl rfl)
theorem dJ1_leftOf_5 : decode cJ1_leftOf 5 = .ok (.goto 7, 3) := dk_167 0 7 (dk_at dksJ1_leftOf_0 5 rfl rfl)
theorem dJ1_leftOf_8 : decode cJ1_leftOf 8 = .ok (.aload_n 0, 1) := dk_42 (dk_at dksJ1_leftOf_0 8 rfl rfl)
theorem dJ1_leftOf_9 : decode cJ1_leftOf 9 = .ok (.getfield 111, 3) := dk_180 0 111 (dk_at dksJ1_leftOf_0 9 rfl rfl)
theorem dJ1_leftOf_12 : decode cJ1_leftOf 12 = .ok (.areturn, 1) := dk_176 (dk_at dksJ1_leftOf_0 12 rfl rfl)
abbrev cJ1_rightOf : ByteArray := prog_61_method_80_code
def yJ1_rightOf : MethodName := ⟨RJ1, "rightOf", "(Ljava/util/TreeMap$Entry;)Ljava/util/TreeMap$Entry;"⟩
def dkwJ1_rightOf_0 : List UInt8 := [42, 199, 0, 7, 1, 167, 0, 7, 42, 180, 0, 114, 176]
abbrev dktJ1_rightOf_0 : List UInt8 := dkwJ1_rightOf_0 ++ []
theorem dksJ1_rightOf_0 : cJ1_rightOf.data.toList.drop 0 = dktJ1_rightOf_0 := by decide +kernel
theorem dJ1_rightOf_0 : decode cJ1_rightOf 0 = .ok (.aload_n 0, 1) := dk_42 (dk_at dksJ1_rightOf_0 0 rfl rfl)
theorem dJ1_rightOf_1 : decode cJ1_rightOf 1 = .ok (.ifnonnull 7, 3) := dk_199 0 7 (dk_at dksJ1_rightOf_0 1 rfl rfl)
theorem dJ1_rightOf_4 : decode cJ1_rightOf 4 = .ok (.aconst_null, 1) := dk_1 (dk_at dksJ1_rightOf_0 4 rfl rfl)
theorem dJ1_rightOf_5 : decode cJ1_rightOf 5 = .ok (.goto 7, 3) := dk_167 0 7 (dk_at dksJ1_rightOf_0 5 rfl rfl)
theorem dJ1_rightOf_8 : decode cJ1_rightOf 8 = .ok (.aload_n 0, 1) := dk_42 (dk_at dksJ1_rightOf_0 8 rfl rfl)
theorem dJ1_rightOf_9 : decode cJ1_rightOf 9 = .ok (.getfield 114, 3) := dk_180 0 114 (dk_at dksJ1_rightOf_0 9 rfl rfl)
theorem dJ1_rightOf_12 : decode cJ1_rightOf 12 = .ok (.areturn, 1) := dk_176 (dk_at dksJ1_rightOf_0 12 rfl rfl)
abbrev cJ1_colorOf : ByteArray := prog_61_method_76_code
def yJ1_colorOf : MethodName := ⟨RJ1, "colorOf", "(Ljava/util/TreeMap$Entry;)Z"⟩
def dkwJ1_colorOf_0 : List UInt8 := [42, 199, 0, 7, 4, 167, 0, 7, 42, 180, 1, 34, 172]
abbrev dktJ1_colorOf_0 : List UInt8 := dkwJ1_colorOf_0 ++ []
theorem dksJ1_colorOf_0 : cJ1_colorOf.data.toList.drop 0 = dktJ1_colorOf_0 := by decide +kernel
theorem dJ1_colorOf_0 : decode cJ1_colorOf 0 = .ok (.aload_n 0, 1) := dk_42 (dk_at dksJ1_colorOf_0 0 rfl rfl)
theorem dJ1_colorOf_1 : decode cJ1_colorOf 1 = .ok (.ifnonnull 7, 3) := dk_199 0 7 (dk_at dksJ1_colorOf_0 1 rfl rfl)
theorem dJ1_colorOf_4 : decode cJ1_colorOf 4 = .ok (.iconst 1, 1) := dk_4 (dk_at dksJ1_colorOf_0 4 rfl rfl)
theorem dJ1_colorOf_5 : decode cJ1_colorOf 5 = .ok (.goto 7, 3) := dk_167 0 7 (dk_at dksJ1_colorOf_0 5 rfl rfl)
theorem dJ1_colorOf_8 : decode cJ1_colorOf 8 = .ok (.aload_n 0, 1) := dk_42 (dk_at dksJ1_colorOf_0 8 rfl rfl)
theorem dJ1_colorOf_9 : decode cJ1_colorOf 9 = .ok (.getfield 290, 3) := dk_180 1 34 (dk_at dksJ1_colorOf_0 9 rfl rfl)
theorem dJ1_colorOf_12 : decode cJ1_colorOf 12 = .ok (.ireturn, 1) := dk_172 (dk_at dksJ1_colorOf_0 12 rfl rfl)
abbrev cJ1_setColor : ByteArray := prog_61_method_78_code
def yJ1_setColor : MethodName := ⟨RJ1, "setColor", "(Ljava/util/TreeMap$Entry;Z)V"⟩
def dkwJ1_setColor_0 : List UInt8 := [42, 198, 0, 8, 42, 27, 181, 1, 34, 177]
abbrev dktJ1_setColor_0 : List UInt8 := dkwJ1_setColor_0 ++ []
theorem dksJ1_setColor_0 : cJ1_setColor.data.toList.drop 0 = dktJ1_setColor_0 := by decide +kernel
theorem dJ1_setColor_0 : decode cJ1_setColor 0 = .ok (.aload_n 0, 1) := dk_42 (dk_at dksJ1_setColor_0 0 rfl rfl)
theorem dJ1_setColor_1 : decode cJ1_setColor 1 = .ok (.ifnull 8, 3) := dk_198 0 8 (dk_at dksJ1_setColor_0 1 rfl rfl)
theorem dJ1_setColor_4 : decode cJ1_setColor 4 = .ok (.aload_n 0, 1) := dk_42 (dk_at dksJ1_setColor_0 4 rfl rfl)
theorem dJ1_setColor_5 : decode cJ1_setColor 5 = .ok (.iload_n 1, 1) := dk_27 (dk_at dksJ1_setColor_0 5 rfl rfl)
theorem dJ1_setColor_6 : decode cJ1_setColor 6 = .ok (.putfield 290, 3) := dk_181 1 34 (dk_at dksJ1_setColor_0 6 rfl rfl)
theorem dJ1_setColor_9 : decode cJ1_setColor 9 = .ok (.return_, 1) := dk_177 (dk_at dksJ1_setColor_0 9 rfl rfl)
abbrev cJ1_rotateLeft : ByteArray := prog_61_method_81_code
def yJ1_rotateLeft : MethodName := ⟨RJ1, "rotateLeft", "(Ljava/util/TreeMap$Entry;)V"⟩
def dkwJ1_rotateLeft_4 : List UInt8 := [177]
abbrev dktJ1_rotateLeft_4 : List UInt8 := dkwJ1_rotateLeft_4 ++ []
def dkwJ1_rotateLeft_3 : List UInt8 := [181, 0, 111, 167, 0, 11, 43, 180, 0, 124, 44, 181, 0, 114, 44, 43, 181, 0, 111, 43, 44, 181, 0, 124]
abbrev dktJ1_rotateLeft_3 : List UInt8 := dkwJ1_rotateLeft_3 ++ dktJ1_rotateLeft_4
def dkwJ1_rotateLeft_2 : List UInt8 := [44, 181, 0, 101, 167, 0, 33, 43, 180, 0, 124, 180, 0, 111, 43, 166, 0, 14, 43, 180, 0, 124, 44]
abbrev dktJ1_rotateLeft_2 : List UInt8 := dkwJ1_rotateLeft_2 ++ dktJ1_rotateLeft_3
def dkwJ1_rotateLeft_1 : List UInt8 := [44, 180, 0, 111, 43, 181, 0, 124, 44, 43, 180, 0, 124, 181, 0, 124, 43, 180, 0, 124, 199, 0, 11, 42]
abbrev dktJ1_rotateLeft_1 : List UInt8 := dkwJ1_rotateLeft_1 ++ dktJ1_rotateLeft_2
def dkwJ1_rotateLeft_0 : List UInt8 := [43, 198, 0, 94, 43, 180, 0, 114, 77, 43, 44, 180, 0, 111, 181, 0, 114, 44, 180, 0, 111, 198, 0, 11]
abbrev dktJ1_rotateLeft_0 : List UInt8 := dkwJ1_rotateLeft_0 ++ dktJ1_rotateLeft_1
theorem dksJ1_rotateLeft_0 : cJ1_rotateLeft.data.toList.drop 0 = dktJ1_rotateLeft_0 := by decide +kernel
theorem dksJ1_rotateLeft_1 : cJ1_rotateLeft.data.toList.drop 24 = dktJ1_rotateLeft_1 := dk_seg dksJ1_rotateLeft_0 24 rfl rfl
theorem dksJ1_rotateLeft_2 : cJ1_rotateLeft.data.toList.drop 48 = dktJ1_rotateLeft_2 := dk_seg dksJ1_rotateLeft_1 24 rfl rfl
theorem dksJ1_rotateLeft_3 : cJ1_rotateLeft.data.toList.drop 71 = dktJ1_rotateLeft_3 := dk_seg dksJ1_rotateLeft_2 23 rfl rfl
theorem dksJ1_rotateLeft_4 : cJ1_rotateLeft.data.toList.drop 95 = dktJ1_rotateLeft_4 := dk_seg dksJ1_rotateLeft_3 24 rfl rfl
theorem dJ1_rotateLeft_0 : decode cJ1_rotateLeft 0 = .ok (.aload_n 1, 1) := dk_43 (dk_at dksJ1_rotateLeft_0 0 rfl rfl)
theorem dJ1_rotateLeft_1 : decode cJ1_rotateLeft 1 = .ok (.ifnull 94, 3) := dk_198 0 94 (dk_at dksJ1_rotateLeft_0 1 rfl rfl)
theorem dJ1_rotateLeft_4 : decode cJ1_rotateLeft 4 = .ok (.aload_n 1, 1) := dk_43 (dk_at dksJ1_rotateLeft_0 4 rfl rfl)
theorem dJ1_rotateLeft_5 : decode cJ1_rotateLeft 5 = .ok (.getfield 114, 3) := dk_180 0 114 (dk_at dksJ1_rotateLeft_0 5 rfl rfl)
theorem dJ1_rotateLeft_8 : decode cJ1_rotateLeft 8 = .ok (.astore_n 2, 1) := dk_77 (dk_at dksJ1_rotateLeft_0 8 rfl rfl)
theorem dJ1_rotateLeft_9 : decode cJ1_rotateLeft 9 = .ok (.aload_n 1, 1) := dk_43 (dk_at dksJ1_rotateLeft_0 9 rfl rfl)
theorem dJ1_rotateLeft_10 : decode cJ1_rotateLeft 10 = .ok (.aload_n 2, 1) := dk_44 (dk_at dksJ1_rotateLeft_0 10 rfl rfl)
theorem dJ1_rotateLeft_11 : decode cJ1_rotateLeft 11 = .ok (.getfield 111, 3) := dk_180 0 111 (dk_at dksJ1_rotateLeft_0 11 rfl rfl)
theorem dJ1_rotateLeft_14 : decode cJ1_rotateLeft 14 = .ok (.putfield 114, 3) := dk_181 0 114 (dk_at dksJ1_rotateLeft_0 14 rfl rfl)
theorem dJ1_rotateLeft_17 : decode cJ1_rotateLeft 17 = .ok (.aload_n 2, 1) := dk_44 (dk_at dksJ1_rotateLeft_0 17 rfl rfl)
theorem dJ1_rotateLeft_18 : decode cJ1_rotateLeft 18 = .ok (.getfield 111, 3) := dk_180 0 111 (dk_at dksJ1_rotateLeft_0 18 rfl rfl)
theorem dJ1_rotateLeft_21 : decode cJ1_rotateLeft 21 = .ok (.ifnull 11, 3) := dk_198 0 11 (dk_at dksJ1_rotateLeft_0 21 rfl rfl)
theorem dJ1_rotateLeft_24 : decode cJ1_rotateLeft 24 = .ok (.aload_n 2, 1) := dk_44 (dk_at dksJ1_rotateLeft_1 0 rfl rfl)
theorem dJ1_rotateLeft_25 : decode cJ1_rotateLeft 25 = .ok (.getfield 111, 3) := dk_180 0 111 (dk_at dksJ1_rotateLeft_1 1 rfl rfl)
theorem dJ1_rotateLeft_28 : decode cJ1_rotateLeft 28 = .ok (.aload_n 1, 1) := dk_43 (dk_at dksJ1_rotateLeft_1 4 rfl rfl)
theorem dJ1_rotateLeft_29 : decode cJ1_rotateLeft 29 = .ok (.putfield 124, 3) := dk_181 0 124 (dk_at dksJ1_rotateLeft_1 5 rfl rfl)
theorem dJ1_rotateLeft_32 : decode cJ1_rotateLeft 32 = .ok (.aload_n 2, 1) := dk_44 (dk_at dksJ1_rotateLeft_1 8 rfl rfl)
theorem dJ1_rotateLeft_33 : decode cJ1_rotateLeft 33 = .ok (.aload_n 1, 1) := dk_43 (dk_at dksJ1_rotateLeft_1 9 rfl rfl)
theorem dJ1_rotateLeft_34 : decode cJ1_rotateLeft 34 = .ok (.getfield 124, 3) := dk_180 0 124 (dk_at dksJ1_rotateLeft_1 10 rfl rfl)
theorem dJ1_rotateLeft_37 : decode cJ1_rotateLeft 37 = .ok (.putfield 124, 3) := dk_181 0 124 (dk_at dksJ1_rotateLeft_1 13 rfl rfl)
theorem dJ1_rotateLeft_40 : decode cJ1_rotateLeft 40 = .ok (.aload_n 1, 1) := dk_43 (dk_at dksJ1_rotateLeft_1 16 rfl rfl)
theorem dJ1_rotateLeft_41 : decode cJ1_rotateLeft 41 = .ok (.getfield 124, 3) := dk_180 0 124 (dk_at dksJ1_rotateLeft_1 17 rfl rfl)
theorem dJ1_rotateLeft_44 : decode cJ1_rotateLeft 44 = .ok (.ifnonnull 11, 3) := dk_199 0 11 (dk_at dksJ1_rotateLeft_1 20 rfl rfl)
theorem dJ1_rotateLeft_47 : decode cJ1_rotateLeft 47 = .ok (.aload_n 0, 1) := dk_42 (dk_at dksJ1_rotateLeft_1 23 rfl rfl)
theorem dJ1_rotateLeft_48 : decode cJ1_rotateLeft 48 = .ok (.aload_n 2, 1) := dk_44 (dk_at dksJ1_rotateLeft_2 0 rfl rfl)
theorem dJ1_rotateLeft_49 : decode cJ1_rotateLeft 49 = .ok (.putfield 101, 3) := dk_181 0 101 (dk_at dksJ1_rotateLeft_2 1 rfl rfl)
theorem dJ1_rotateLeft_52 : decode cJ1_rotateLeft 52 = .ok (.goto 33, 3) := dk_167 0 33 (dk_at dksJ1_rotateLeft_2 4 rfl rfl)
theorem dJ1_rotateLeft_55 : decode cJ1_rotateLeft 55 = .ok (.aload_n 1, 1) := dk_43 (dk_at dksJ1_rotateLeft_2 7 rfl rfl)
theorem dJ1_rotateLeft_56 : decode cJ1_rotateLeft 56 = .ok (.getfield 124, 3) := dk_180 0 124 (dk_at dksJ1_rotateLeft_2 8 rfl rfl)
theorem dJ1_rotateLeft_59 : decode cJ1_rotateLeft 59 = .ok (.getfield 111, 3) := dk_180 0 111 (dk_at dksJ1_rotateLeft_2 11 rfl rfl)
theorem dJ1_rotateLeft_62 : decode cJ1_rotateLeft 62 = .ok (.aload_n 1, 1) := dk_43 (dk_at dksJ1_rotateLeft_2 14 rfl rfl)
theorem dJ1_rotateLeft_63 : decode cJ1_rotateLeft 63 = .ok (.if_acmp .ne 14, 3) := dk_166 0 14 (dk_at dksJ1_rotateLeft_2 15 rfl rfl)
theorem dJ1_rotateLeft_66 : decode cJ1_rotateLeft 66 = .ok (.aload_n 1, 1) := dk_43 (dk_at dksJ1_rotateLeft_2 18 rfl rfl)
theorem dJ1_rotateLeft_67 : decode cJ1_rotateLeft 67 = .ok (.getfield 124, 3) := dk_180 0 124 (dk_at dksJ1_rotateLeft_2 19 rfl rfl)
theorem dJ1_rotateLeft_70 : decode cJ1_rotateLeft 70 = .ok (.aload_n 2, 1) := dk_44 (dk_at dksJ1_rotateLeft_2 22 rfl rfl)
theorem dJ1_rotateLeft_71 : decode cJ1_rotateLeft 71 = .ok (.putfield 111, 3) := dk_181 0 111 (dk_at dksJ1_rotateLeft_3 0 rfl rfl)
theorem dJ1_rotateLeft_74 : decode cJ1_rotateLeft 74 = .ok (.goto 11, 3) := dk_167 0 11 (dk_at dksJ1_rotateLeft_3 3 rfl rfl)
theorem dJ1_rotateLeft_77 : decode cJ1_rotateLeft 77 = .ok (.aload_n 1, 1) := dk_43 (dk_at dksJ1_rotateLeft_3 6 rfl rfl)
theorem dJ1_rotateLeft_78 : decode cJ1_rotateLeft 78 = .ok (.getfield 124, 3) := dk_180 0 124 (dk_at dksJ1_rotateLeft_3 7 rfl rfl)
theorem dJ1_rotateLeft_81 : decode cJ1_rotateLeft 81 = .ok (.aload_n 2, 1) := dk_44 (dk_at dksJ1_rotateLeft_3 10 rfl rfl)
theorem dJ1_rotateLeft_82 : decode cJ1_rotateLeft 82 = .ok (.putfield 114, 3) := dk_181 0 114 (dk_at dksJ1_rotateLeft_3 11 rfl rfl)
theorem dJ1_rotateLeft_85 : decode cJ1_rotateLeft 85 = .ok (.aload_n 2, 1) := dk_44 (dk_at dksJ1_rotateLeft_3 14 rfl rfl)
theorem dJ1_rotateLeft_86 : decode cJ1_rotateLeft 86 = .ok (.aload_n 1, 1) := dk_43 (dk_at dksJ1_rotateLeft_3 15 rfl rfl)
theorem dJ1_rotateLeft_87 : decode cJ1_rotateLeft 87 = .ok (.putfield 111, 3) := dk_181 0 111 (dk_at dksJ1_rotateLeft_3 16 rfl rfl)
theorem dJ1_rotateLeft_90 : decode cJ1_rotateLeft 90 = .ok (.aload_n 1, 1) := dk_43 (dk_at dksJ1_rotateLeft_3 19 rfl rfl)
theorem dJ1_rotateLeft_91 : decode cJ1_rotateLeft 91 = .ok (.aload_n 2, 1) := dk_44 (dk_at dksJ1_rotateLeft_3 20 rfl rfl)
theorem dJ1_rotateLeft_92 : decode cJ1_rotateLeft 92 = .ok (.putfield 124, 3) := dk_181 0 124 (dk_at dksJ1_rotateLeft_3 21 rfl rfl)
theorem dJ1_rotateLeft_95 : decode cJ1_rotateLeft 95 = .ok (.return_, 1) := dk_177 (dk_at dksJ1_rotateLeft_4 0 rfl rfl)
abbrev cJ1_rotateRight : ByteArray := prog_61_method_82_code
def yJ1_rotateRight : MethodName := ⟨RJ1, "rotateRight", "(Ljava/util/TreeMap$Entry;)V"⟩
def dkwJ1_rotateRight_4 : List UInt8 := [177]
abbrev dktJ1_rotateRight_4 : List UInt8 := dkwJ1_rotateRight_4 ++ []
def dkwJ1_rotateRight_3 : List UInt8 := [181, 0, 114, 167, 0, 11, 43, 180, 0, 124, 44, 181, 0, 111, 44, 43, 181, 0, 114, 43, 44, 181, 0, 124]
abbrev dktJ1_rotateRight_3 : List UInt8 := dkwJ1_rotateRight_3 ++ dktJ1_rotateRight_4
def dkwJ1_rotateRight_2 : List UInt8 := [44, 181, 0, 101, 167, 0, 33, 43, 180, 0, 124, 180, 0, 114, 43, 166, 0, 14, 43, 180, 0, 124, 44]
abbrev dktJ1_rotateRight_2 : List UInt8 := dkwJ1_rotateRight_2 ++ dktJ1_rotateRight_3
def dkwJ1_rotateRight_1 : List UInt8 := [44, 180, 0, 114, 43, 181, 0, 124, 44, 43, 180, 0, 124, 181, 0, 124, 43, 180, 0, 124, 199, 0, 11, 42]
abbrev dktJ1_rotateRight_1 : List UInt8 := dkwJ1_rotateRight_1 ++ dktJ1_rotateRight_2
def dkwJ1_rotateRight_0 : List UInt8 := [43, 198, 0, 94, 43, 180, 0, 111, 77, 43, 44, 180, 0, 114, 181, 0, 111, 44, 180, 0, 114, 198, 0, 11]
abbrev dktJ1_rotateRight_0 : List UInt8 := dkwJ1_rotateRight_0 ++ dktJ1_rotateRight_1
theorem dksJ1_rotateRight_0 : cJ1_rotateRight.data.toList.drop 0 = dktJ1_rotateRight_0 := by decide +kernel
theorem dksJ1_rotateRight_1 : cJ1_rotateRight.data.toList.drop 24 = dktJ1_rotateRight_1 := dk_seg dksJ1_rotateRight_0 24 rfl rfl
theorem dksJ1_rotateRight_2 : cJ1_rotateRight.data.toList.drop 48 = dktJ1_rotateRight_2 := dk_seg dksJ1_rotateRight_1 24 rfl rfl
theorem dksJ1_rotateRight_3 : cJ1_rotateRight.data.toList.drop 71 = dktJ1_rotateRight_3 := dk_seg dksJ1_rotateRight_2 23 rfl rfl
theorem dksJ1_rotateRight_4 : cJ1_rotateRight.data.toList.drop 95 = dktJ1_rotateRight_4 := dk_seg dksJ1_rotateRight_3 24 rfl rfl
theorem dJ1_rotateRight_0 : decode cJ1_rotateRight 0 = .ok (.aload_n 1, 1) := dk_43 (dk_at dksJ1_rotateRight_0 0 rfl rfl)
theorem dJ1_rotateRight_1 : decode cJ1_rotateRight 1 = .ok (.ifnull 94, 3) := dk_198 0 94 (dk_at dksJ1_rotateRight_0 1 rfl rfl)
theorem dJ1_rotateRight_4 : decode cJ1_rotateRight 4 = .ok (.aload_n 1, 1) := dk_43 (dk_at dksJ1_rotateRight_0 4 rfl rfl)
theorem dJ1_rotateRight_5 : decode cJ1_rotateRight 5 = .ok (.getfield 111, 3) := dk_180 0 111 (dk_at dksJ1_rotateRight_0 5 rfl rfl)
theorem dJ1_rotateRight_8 : decode cJ1_rotateRight 8 = .ok (.astore_n 2, 1) := dk_77 (dk_at dksJ1_rotateRight_0 8 rfl rfl)
theorem dJ1_rotateRight_9 : decode cJ1_rotateRight 9 = .ok (.aload_n 1, 1) := dk_43 (dk_at dksJ1_rotateRight_0 9 rfl rfl)
theorem dJ1_rotateRight_10 : decode cJ1_rotateRight 10 = .ok (.aload_n 2, 1) := dk_44 (dk_at dksJ1_rotateRight_0 10 rfl rfl)
theorem dJ1_rotateRight_11 : decode cJ1_rotateRight 11 = .ok (.getfield 114, 3) := dk_180 0 114 (dk_at dksJ1_rotateRight_0 11 rfl rfl)
theorem dJ1_rotateRight_14 : decode cJ1_rotateRight 14 = .ok (.putfield 111, 3) := dk_181 0 111 (dk_at dksJ1_rotateRight_0 14 rfl rfl)
theorem dJ1_rotateRight_17 : decode cJ1_rotateRight 17 = .ok (.aload_n 2, 1) := dk_44 (dk_at dksJ1_rotateRight_0 17 rfl rfl)
theorem dJ1_rotateRight_18 : decode cJ1_rotateRight 18 = .ok (.getfield 114, 3) := dk_180 0 114 (dk_at dksJ1_rotateRight_0 18 rfl rfl)
theorem dJ1_rotateRight_21 : decode cJ1_rotateRight 21 = .ok (.ifnull 11, 3) := dk_198 0 11 (dk_at dksJ1_rotateRight_0 21 rfl rfl)
theorem dJ1_rotateRight_24 : decode cJ1_rotateRight 24 = .ok (.aload_n 2, 1) := dk_44 (dk_at dksJ1_rotateRight_1 0 rfl rfl)
theorem dJ1_rotateRight_25 : decode cJ1_rotateRight 25 = .ok (.getfield 114, 3) := dk_180 0 114 (dk_at dksJ1_rotateRight_1 1 rfl rfl)
theorem dJ1_rotateRight_28 : decode cJ1_rotateRight 28 = .ok (.aload_n 1, 1) := dk_43 (dk_at dksJ1_rotateRight_1 4 rfl rfl)
theorem dJ1_rotateRight_29 : decode cJ1_rotateRight 29 = .ok (.putfield 124, 3) := dk_181 0 124 (dk_at dksJ1_rotateRight_1 5 rfl rfl)
theorem dJ1_rotateRight_32 : decode cJ1_rotateRight 32 = .ok (.aload_n 2, 1) := dk_44 (dk_at dksJ1_rotateRight_1 8 rfl rfl)
theorem dJ1_rotateRight_33 : decode cJ1_rotateRight 33 = .ok (.aload_n 1, 1) := dk_43 (dk_at dksJ1_rotateRight_1 9 rfl rfl)
theorem dJ1_rotateRight_34 : decode cJ1_rotateRight 34 = .ok (.getfield 124, 3) := dk_180 0 124 (dk_at dksJ1_rotateRight_1 10 rfl rfl)
theorem dJ1_rotateRight_37 : decode cJ1_rotateRight 37 = .ok (.putfield 124, 3) := dk_181 0 124 (dk_at dksJ1_rotateRight_1 13 rfl rfl)
theorem dJ1_rotateRight_40 : decode cJ1_rotateRight 40 = .ok (.aload_n 1, 1) := dk_43 (dk_at dksJ1_rotateRight_1 16 rfl rfl)
theorem dJ1_rotateRight_41 : decode cJ1_rotateRight 41 = .ok (.getfield 124, 3) := dk_180 0 124 (dk_at dksJ1_rotateRight_1 17 rfl rfl)
theorem dJ1_rotateRight_44 : decode cJ1_rotateRight 44 = .ok (.ifnonnull 11, 3) := dk_199 0 11 (dk_at dksJ1_rotateRight_1 20 rfl rfl)
theorem dJ1_rotateRight_47 : decode cJ1_rotateRight 47 = .ok (.aload_n 0, 1) := dk_42 (dk_at dksJ1_rotateRight_1 23 rfl rfl)
theorem dJ1_rotateRight_48 : decode cJ1_rotateRight 48 = .ok (.aload_n 2, 1) := dk_44 (dk_at dksJ1_rotateRight_2 0 rfl rfl)
theorem dJ1_rotateRight_49 : decode cJ1_rotateRight 49 = .ok (.putfield 101, 3) := dk_181 0 101 (dk_at dksJ1_rotateRight_2 1 rfl rfl)
theorem dJ1_rotateRight_52 : decode cJ1_rotateRight 52 = .ok (.goto 33, 3) := dk_167 0 33 (dk_at dksJ1_rotateRight_2 4 rfl rfl)
theorem dJ1_rotateRight_55 : decode cJ1_rotateRight 55 = .ok (.aload_n 1, 1) := dk_43 (dk_at dksJ1_rotateRight_2 7 rfl rfl)
theorem dJ1_rotateRight_56 : decode cJ1_rotateRight 56 = .ok (.getfield 124, 3) := dk_180 0 124 (dk_at dksJ1_rotateRight_2 8 rfl rfl)
theorem dJ1_rotateRight_59 : decode cJ1_rotateRight 59 = .ok (.getfield 114, 3) := dk_180 0 114 (dk_at dksJ1_rotateRight_2 11 rfl rfl)
theorem dJ1_rotateRight_62 : decode cJ1_rotateRight 62 = .ok (.aload_n 1, 1) := dk_43 (dk_at dksJ1_rotateRight_2 14 rfl rfl)
theorem dJ1_rotateRight_63 : decode cJ1_rotateRight 63 = .ok (.if_acmp .ne 14, 3) := dk_166 0 14 (dk_at dksJ1_rotateRight_2 15 rfl rfl)
theorem dJ1_rotateRight_66 : decode cJ1_rotateRight 66 = .ok (.aload_n 1, 1) := dk_43 (dk_at dksJ1_rotateRight_2 18 rfl rfl)
theorem dJ1_rotateRight_67 : decode cJ1_rotateRight 67 = .ok (.getfield 124, 3) := dk_180 0 124 (dk_at dksJ1_rotateRight_2 19 rfl rfl)
theorem dJ1_rotateRight_70 : decode cJ1_rotateRight 70 = .ok (.aload_n 2, 1) := dk_44 (dk_at dksJ1_rotateRight_2 22 rfl rfl)
theorem dJ1_rotateRight_71 : decode cJ1_rotateRight 71 = .ok (.putfield 114, 3) := dk_181 0 114 (dk_at dksJ1_rotateRight_3 0 rfl rfl)
theorem dJ1_rotateRight_74 : decode cJ1_rotateRight 74 = .ok (.goto 11, 3) := dk_167 0 11 (dk_at dksJ1_rotateRight_3 3 rfl rfl)
theorem dJ1_rotateRight_77 : decode cJ1_rotateRight 77 = .ok (.aload_n 1, 1) := dk_43 (dk_at dksJ1_rotateRight_3 6 rfl rfl)
theorem dJ1_rotateRight_78 : decode cJ1_rotateRight 78 = .ok (.getfield 124, 3) := dk_180 0 124 (dk_at dksJ1_rotateRight_3 7 rfl rfl)
theorem dJ1_rotateRight_81 : decode cJ1_rotateRight 81 = .ok (.aload_n 2, 1) := dk_44 (dk_at dksJ1_rotateRight_3 10 rfl rfl)
theorem dJ1_rotateRight_82 : decode cJ1_rotateRight 82 = .ok (.putfield 111, 3) := dk_181 0 111 (dk_at dksJ1_rotateRight_3 11 rfl rfl)
theorem dJ1_rotateRight_85 : decode cJ1_rotateRight 85 = .ok (.aload_n 2, 1) := dk_44 (dk_at dksJ1_rotateRight_3 14 rfl rfl)
theorem dJ1_rotateRight_86 : decode cJ1_rotateRight 86 = .ok (.aload_n 1, 1) := dk_43 (dk_at dksJ1_rotateRight_3 15 rfl rfl)
theorem dJ1_rotateRight_87 : decode cJ1_rotateRight 87 = .ok (.putfield 114, 3) := dk_181 0 114 (dk_at dksJ1_rotateRight_3 16 rfl rfl)
theorem dJ1_rotateRight_90 : decode cJ1_rotateRight 90 = .ok (.aload_n 1, 1) := dk_43 (dk_at dksJ1_rotateRight_3 19 rfl rfl)
theorem dJ1_rotateRight_91 : decode cJ1_rotateRight 91 = .ok (.aload_n 2, 1) := dk_44 (dk_at dksJ1_rotateRight_3 20 rfl rfl)
theorem dJ1_rotateRight_92 : decode cJ1_rotateRight 92 = .ok (.putfield 124, 3) := dk_181 0 124 (dk_at dksJ1_rotateRight_3 21 rfl rfl)
theorem dJ1_rotateRight_95 : decode cJ1_rotateRight 95 = .ok (.return_, 1) := dk_177 (dk_at dksJ1_rotateRight_4 0 rfl rfl)
theorem q41 : (Jvm.Cond.initialized "java/util/TreeMap") ∈ lw_all := lw_g (lw_at lw_m1 6 rfl) rfl
theorem q102 : (Jvm.Cond.instantiable "java/util/TreeMap" (9 : Nat)) ∈ lw_all := lw_g (lw_at lw_m1 67 rfl) rfl
theorem q104 : (Jvm.Cond.instanceMethod ({ cls := "java/util/TreeMap", name := "<init>", desc := "()V" } : Jvm.MethodName)) ∈ lw_all := lw_g (lw_at lw_m1 69 rfl) rfl
theorem q105 : (Jvm.Cond.code ({ cls := "java/util/TreeMap", name := "<init>", desc := "()V" } : Jvm.MethodName) prog_61_method_1_code (1 : Nat) (Option.none : Option Jvm.ClassFile.FieldType)) ∈ lw_all := lw_g (lw_at lw_m1 70 rfl) rfl
theorem q106 : (Jvm.Cond.methodLink "java/util/TreeMap" (1 : Nat) ({ cls := "java/util/AbstractMap", name := "<init>", desc := "()V" } : Jvm.MethodName)) ∈ lw_all := lw_g (lw_at lw_m1 71 rfl) rfl
theorem q110 : (Jvm.Cond.fieldLink "java/util/TreeMap" (16 : Nat) "java/util/TreeMap" "comparator" "Ljava/util/Comparator;") ∈ lw_all := lw_g (lw_at lw_m1 75 rfl) rfl
theorem q111 : (Jvm.Cond.fieldLink "java/util/TreeMap" (101 : Nat) "java/util/TreeMap" "root" "Ljava/util/TreeMap$Entry;") ∈ lw_all := lw_g (lw_at lw_m1 76 rfl) rfl
theorem q112 : (Jvm.Cond.fieldLink "java/util/TreeMap" (7 : Nat) "java/util/TreeMap" "size" "I") ∈ lw_all := lw_g (lw_at lw_m1 77 rfl) rfl
theorem q113 : (Jvm.Cond.fieldLink "java/util/TreeMap" (13 : Nat) "java/util/TreeMap" "modCount" "I") ∈ lw_all := lw_g (lw_at lw_m1 78 rfl) rfl
theorem q114 : (Jvm.Cond.laysFinal "java/util/TreeMap" "java/util/TreeMap" "comparator" "Ljava/util/Comparator;") ∈ lw_all := lw_g (lw_at lw_m1 79 rfl) rfl
theorem q115 : (Jvm.Cond.soleField "java/util/TreeMap" "comparator") ∈ lw_all := lw_g (lw_at lw_m1 80 rfl) rfl
theorem q116 : (Jvm.Cond.lays "java/util/TreeMap" "java/util/TreeMap" "root" "Ljava/util/TreeMap$Entry;") ∈ lw_all := lw_g (lw_at lw_m1 81 rfl) rfl
theorem q117 : (Jvm.Cond.soleField "java/util/TreeMap" "root") ∈ lw_all := lw_g (lw_at lw_m1 82 rfl) rfl
theorem q118 : (Jvm.Cond.lays "java/util/TreeMap" "java/util/TreeMap" "size" "I") ∈ lw_all := lw_g (lw_at lw_m1 83 rfl) rfl
theorem q119 : (Jvm.Cond.soleField "java/util/TreeMap" "size") ∈ lw_all := lw_g (lw_at lw_m1 84 rfl) rfl
theorem q120 : (Jvm.Cond.lays "java/util/TreeMap" "java/util/TreeMap" "modCount" "I") ∈ lw_all := lw_g (lw_at lw_m1 85 rfl) rfl
theorem q121 : (Jvm.Cond.soleField "java/util/TreeMap" "modCount") ∈ lw_all := lw_g (lw_at lw_m1 86 rfl) rfl
theorem q122 : (Jvm.Cond.lays "java/util/TreeMap" "java/util/TreeMap" "entrySet" "Ljava/util/TreeMap$EntrySet;") ∈ lw_all := lw_g (lw_at lw_m1 87 rfl) rfl
theorem q123 : (Jvm.Cond.soleField "java/util/TreeMap" "entrySet") ∈ lw_all := lw_g (lw_at lw_m1 88 rfl) rfl
theorem q124 : (Jvm.Cond.lays "java/util/TreeMap" "java/util/TreeMap" "navigableKeySet" "Ljava/util/TreeMap$KeySet;") ∈ lw_all := lw_g (lw_at lw_m1 89 rfl) rfl
theorem q125 : (Jvm.Cond.soleField "java/util/TreeMap" "navigableKeySet") ∈ lw_all := lw_g (lw_at lw_m1 90 rfl) rfl
theorem q126 : (Jvm.Cond.lays "java/util/TreeMap" "java/util/TreeMap" "descendingMap" "Ljava/util/NavigableMap;") ∈ lw_all := lw_g (lw_at lw_m1 91 rfl) rfl
theorem q127 : (Jvm.Cond.soleField "java/util/TreeMap" "descendingMap") ∈ lw_all := lw_g (lw_at lw_m1 92 rfl) rfl
theorem q128 : (Jvm.Cond.lays "java/util/TreeMap" "java/util/AbstractMap" "keySet" "Ljava/util/Set;") ∈ lw_all := lw_g (lw_at lw_m1 93 rfl) rfl
theorem q130 : (Jvm.Cond.lays "java/util/TreeMap" "java/util/AbstractMap" "values" "Ljava/util/Collection;") ∈ lw_all := lw_g (lw_at lw_m1 95 rfl) rfl
theorem q132 : (Jvm.Cond.superclass "java/util/TreeMap" "java/util/AbstractMap") ∈ lw_all := lw_g (lw_at lw_m1 97 rfl) rfl
theorem q786 : (Jvm.Cond.selects "java/util/TreeMap" ({ cls := "java/lang/Object", name := "getClass", desc := "()Ljava/lang/Class;" } : Jvm.MethodName) ({ cls := "java/lang/Object", name := "getClass", desc := "()Ljava/lang/Class;" } : Jvm.MethodName)) ∈ lw_all := lw_g (lw_at lw_m4 31 rfl) rfl
theorem q837 : (Jvm.Cond.instanceMethod ({ cls := "java/util/TreeMap", name := "get", desc := "(Ljava/lang/Object;)Ljava/lang/Object;" } : Jvm.MethodName)) ∈ lw_all := lw_g (lw_at lw_m4 82 rfl) rfl
theorem q838 : (Jvm.Cond.selects "java/util/TreeMap" ({ cls := "java/util/TreeMap", name := "get", desc := "(Ljava/lang/Object;)Ljava/lang/Object;" } : Jvm.MethodName) ({ cls := "java/util/TreeMap", name := "get", desc := "(Ljava/lang/Object;)Ljava/lang/Object;" } : Jvm.MethodName)) ∈ lw_all := lw_g (lw_at lw_m4 83 rfl) rfl
theorem q839 : (Jvm.Cond.code ({ cls := "java/util/TreeMap", name := "get", desc := "(Ljava/lang/Object;)Ljava/lang/Object;" } : Jvm.MethodName) prog_61_method_8_code (3 : Nat) (Option.some (Jvm.ClassFile.FieldType.object "java/lang/Object"))) ∈ lw_all := lw_g (lw_at lw_m4 84 rfl) rfl
theorem q840 : (Jvm.Cond.methodLink "java/util/TreeMap" (50 : Nat) ({ cls := "java/util/TreeMap", name := "getEntry", desc := "(Ljava/lang/Object;)Ljava/util/TreeMap$Entry;" } : Jvm.MethodName)) ∈ lw_all := lw_g (lw_at lw_m4 85 rfl) rfl
theorem q841 : (Jvm.Cond.instanceMethod ({ cls := "java/util/TreeMap", name := "getEntry", desc := "(Ljava/lang/Object;)Ljava/util/TreeMap$Entry;" } : Jvm.MethodName)) ∈ lw_all := lw_g (lw_at lw_m4 86 rfl) rfl
theorem q842 : (Jvm.Cond.selects "java/util/TreeMap" ({ cls := "java/util/TreeMap", name := "getEntry", desc := "(Ljava/lang/Object;)Ljava/util/TreeMap$Entry;" } : Jvm.MethodName) ({ cls := "java/util/TreeMap", name := "getEntry", desc := "(Ljava/lang/Object;)Ljava/util/TreeMap$Entry;" } : Jvm.MethodName)) ∈ lw_all := lw_g (lw_at lw_m4 87 rfl) rfl
theorem q843 : (Jvm.Cond.code ({ cls := "java/util/TreeMap", name := "getEntry", desc := "(Ljava/lang/Object;)Ljava/util/TreeMap$Entry;" } : Jvm.MethodName) prog_61_method_15_code (5 : Nat) (Option.some (Jvm.ClassFile.FieldType.object "java/util/TreeMap$Entry"))) ∈ lw_all := lw_g (lw_at lw_m4 88 rfl) rfl
theorem q844 : (Jvm.Cond.methodLink "java/util/TreeMap" (92 : Nat) ({ cls := "java/util/TreeMap", name := "getEntryUsingComparator", desc := "(Ljava/lang/Object;)Ljava/util/TreeMap$Entry;" } : Jvm.MethodName)) ∈ lw_all := lw_g (lw_at lw_m4 89 rfl) rfl
theorem q845 : (Jvm.Cond.instanceMethod ({ cls := "java/util/TreeMap", name := "getEntryUsingComparator", desc := "(Ljava/lang/Object;)Ljava/util/TreeMap$Entry;" } : Jvm.MethodName)) ∈ lw_all := lw_g (lw_at lw_m4 90 rfl) rfl
theorem q846 : (Jvm.Cond.selects "java/util/TreeMap" ({ cls := "java/util/TreeMap", name := "getEntryUsingComparator", desc := "(Ljava/lang/Object;)Ljava/util/TreeMap$Entry;" } : Jvm.MethodName) ({ cls := "java/util/TreeMap", name := "getEntryUsingComparator", desc := "(Ljava/lang/Object;)Ljava/util/TreeMap$Entry;" } : Jvm.MethodName)) ∈ lw_all := lw_g (lw_at lw_m4 91 rfl) rfl
theorem q847 : (Jvm.Cond.code ({ cls := "java/util/TreeMap", name := "getEntryUsingComparator", desc := "(Ljava/lang/Object;)Ljava/util/TreeMap$Entry;" } : Jvm.MethodName) prog_61_method_16_code (6 : Nat) (Option.some (Jvm.ClassFile.FieldType.object "java/util/TreeMap$Entry"))) ∈ lw_all := lw_g (lw_at lw_m4 92 rfl) rfl
theorem q848 : (Jvm.Cond.interfaceEntry "java/util/TreeMap" (117 : Nat)) ∈ lw_tbl := lw_at lw_m4 93 rfl
theorem q849 : (Jvm.Cond.methodLink "java/util/TreeMap" (117 : Nat) ({ cls := "java/util/Comparator", name := "compare", desc := "(Ljava/lang/Object;Ljava/lang/Object;)I" } : Jvm.MethodName)) ∈ lw_all := lw_g (lw_at lw_m4 94 rfl) rfl
theorem q1014 : (Jvm.Cond.methodLink "java/util/TreeMap" (95 : Nat) ({ cls := "java/util/Objects", name := "requireNonNull", desc := "(Ljava/lang/Object;)Ljava/lang/Object;" } : Jvm.MethodName)) ∈ lw_all := lw_g (lw_at lw_m5 19 rfl) rfl
theorem q1017 : (Jvm.Cond.classLink "java/util/TreeMap" (99 : Nat) "java/lang/Comparable") ∈ lw_all := lw_g (lw_at lw_m5 22 rfl) rfl
theorem q1018 : (Jvm.Cond.interfaceEntry "java/util/TreeMap" (107 : Nat)) ∈ lw_tbl := lw_at lw_m5 23 rfl
theorem q1019 : (Jvm.Cond.methodLink "java/util/TreeMap" (107 : Nat) ({ cls := "java/lang/Comparable", name := "compareTo", desc := "(Ljava/lang/Object;)I" } : Jvm.MethodName)) ∈ lw_all := lw_g (lw_at lw_m5 24 rfl) rfl
theorem q1064 : (Jvm.Cond.instanceMethod ({ cls := "java/util/TreeMap", name := "put", desc := "(Ljava/lang/Object;Ljava/lang/Object;)Ljava/lang/Object;" } : Jvm.MethodName)) ∈ lw_all := lw_g (lw_at lw_m5 69 rfl) rfl
theorem q1065 : (Jvm.Cond.selects "java/util/TreeMap" ({ cls := "java/util/TreeMap", name := "put", desc := "(Ljava/lang/Object;Ljava/lang/Object;)Ljava/lang/Object;" } : Jvm.MethodName) ({ cls := "java/util/TreeMap", name := "put", desc := "(Ljava/lang/Object;Ljava/lang/Object;)Ljava/lang/Object;" } : Jvm.MethodName)) ∈ lw_all := lw_g (lw_at lw_m5 70 rfl) rfl
theorem q1066 : (Jvm.Cond.code ({ cls := "java/util/TreeMap", name := "put", desc := "(Ljava/lang/Object;Ljava/lang/Object;)Ljava/lang/Object;" } : Jvm.MethodName) prog_61_method_21_code (3 : Nat) (Option.some (Jvm.ClassFile.FieldType.object "java/lang/Object"))) ∈ lw_all := lw_g (lw_at lw_m5 71 rfl) rfl
theorem q1067 : (Jvm.Cond.methodLink "java/util/TreeMap" (127 : Nat) ({ cls := "java/util/TreeMap", name := "put", desc := "(Ljava/lang/Object;Ljava/lang/Object;Z)Ljava/lang/Object;" } : Jvm.MethodName)) ∈ lw_all := lw_g (lw_at lw_m5 72 rfl) rfl
theorem q1068 : (Jvm.Cond.privateMethod ({ cls := "java/util/TreeMap", name := "put", desc := "(Ljava/lang/Object;Ljava/lang/Object;Z)Ljava/lang/Object;" } : Jvm.MethodName)) ∈ lw_tbl := lw_at lw_m5 73 rfl
theorem q1069 : (Jvm.Cond.instanceMethod ({ cls := "java/util/TreeMap", name := "put", desc := "(Ljava/lang/Object;Ljava/lang/Object;Z)Ljava/lang/Object;" } : Jvm.MethodName)) ∈ lw_all := lw_g (lw_at lw_m5 74 rfl) rfl
theorem q1070 : (Jvm.Cond.code ({ cls := "java/util/TreeMap", name := "put", desc := "(Ljava/lang/Object;Ljava/lang/Object;Z)Ljava/lang/Object;" } : Jvm.MethodName) prog_61_method_31_code (10 : Nat) (Option.some (Jvm.ClassFile.FieldType.object "java/lang/Object"))) ∈ lw_all := lw_g (lw_at lw_m5 75 rfl) rfl
theorem q1071 : (Jvm.Cond.methodLink "java/util/TreeMap" (135 : Nat) ({ cls := "java/util/TreeMap", name := "addEntryToEmptyMap", desc := "(Ljava/lang/Object;Ljava/lang/Object;)V" } : Jvm.MethodName)) ∈ lw_all := lw_g (lw_at lw_m5 76 rfl) rfl
theorem q1072 : (Jvm.Cond.privateMethod ({ cls := "java/util/TreeMap", name := "addEntryToEmptyMap", desc := "(Ljava/lang/Object;Ljava/lang/Object;)V" } : Jvm.MethodName)) ∈ lw_tbl := lw_at lw_m5 77 rfl
theorem q1073 : (Jvm.Cond.instanceMethod ({ cls := "java/util/TreeMap", name := "addEntryToEmptyMap", desc := "(Ljava/lang/Object;Ljava/lang/Object;)V" } : Jvm.MethodName)) ∈ lw_all := lw_g (lw_at lw_m5 78 rfl) rfl
theorem q1074 : (Jvm.Cond.code ({ cls := "java/util/TreeMap", name := "addEntryToEmptyMap", desc := "(Ljava/lang/Object;Ljava/lang/Object;)V" } : Jvm.MethodName) prog_61_method_30_code (3 : Nat) (Option.none : Option Jvm.ClassFile.FieldType)) ∈ lw_all := lw_g (lw_at lw_m5 79 rfl) rfl
theorem q1075 : (Jvm.Cond.methodLink "java/util/TreeMap" (123 : Nat) ({ cls := "java/util/TreeMap", name := "compare", desc := "(Ljava/lang/Object;Ljava/lang/Object;)I" } : Jvm.MethodName)) ∈ lw_all := lw_g (lw_at lw_m5 80 rfl) rfl
theorem q1076 : (Jvm.Cond.instanceMethod ({ cls := "java/util/TreeMap", name := "compare", desc := "(Ljava/lang/Object;Ljava/lang/Object;)I" } : Jvm.MethodName)) ∈ lw_all := lw_g (lw_at lw_m5 81 rfl) rfl
theorem q1077 : (Jvm.Cond.selects "java/util/TreeMap" ({ cls := "java/util/TreeMap", name := "compare", desc := "(Ljava/lang/Object;Ljava/lang/Object;)I" } : Jvm.MethodName) ({ cls := "java/util/TreeMap", name := "compare", desc := "(Ljava/lang/Object;Ljava/lang/Object;)I" } : Jvm.MethodName)) ∈ lw_all := lw_g (lw_at lw_m5 82 rfl) rfl
theorem q1078 : (Jvm.Cond.code ({ cls := "java/util/TreeMap", name := "compare", desc := "(Ljava/lang/Object;Ljava/lang/Object;)I" } : Jvm.MethodName) prog_61_method_67_code (3 : Nat) (Option.some Jvm.ClassFile.FieldType.int)) ∈ lw_all := lw_g (lw_at lw_m5 83 rfl) rfl
theorem q1079 : (Jvm.Cond.classLink "java/util/TreeMap" (59 : Nat) "java/util/TreeMap$Entry") ∈ lw_all := lw_g (lw_at lw_m5 84 rfl) rfl
theorem q1081 : (Jvm.Cond.methodLink "java/util/TreeMap" (167 : Nat) ({ cls := "java/util/TreeMap$Entry", name := "<init>", desc := "(Ljava/lang/Object;Ljava/lang/Object;Ljava/util/TreeMap$Entry;)V" } : Jvm.MethodName)) ∈ lw_all := lw_g (lw_at lw_m5 86 rfl) rfl
theorem q1086 : (Jvm.Cond.fieldLink "java/util/TreeMap" (105 : Nat) "java/util/TreeMap$Entry" "key" "Ljava/lang/Object;") ∈ lw_all := lw_g (lw_at lw_m5 91 rfl) rfl
theorem q1088 : (Jvm.Cond.fieldLink "java/util/TreeMap" (58 : Nat) "java/util/TreeMap$Entry" "value" "Ljava/lang/Object;") ∈ lw_all := lw_g (lw_at lw_m5 93 rfl) rfl
theorem q1089 : (Jvm.Cond.fieldLink "java/util/TreeMap" (111 : Nat) "java/util/TreeMap$Entry" "left" "Ljava/util/TreeMap$Entry;") ∈ lw_all := lw_g (lw_at lw_m5 94 rfl) rfl
theorem q1090 : (Jvm.Cond.fieldLink "java/util/TreeMap" (114 : Nat) "java/util/TreeMap$Entry" "right" "Ljava/util/TreeMap$Entry;") ∈ lw_all := lw_g (lw_at lw_m5 95 rfl) rfl
theorem q1092 : (Jvm.Cond.fieldLink "java/util/TreeMap" (124 : Nat) "java/util/TreeMap$Entry" "parent" "Ljava/util/TreeMap$Entry;") ∈ lw_all := lw_g (lw_at lw_m5 97 rfl) rfl
theorem q1094 : (Jvm.Cond.fieldLink "java/util/TreeMap" (290 : Nat) "java/util/TreeMap$Entry" "color" "Z") ∈ lw_all := lw_g (lw_at lw_m5 99 rfl) rfl
theorem q1108 : (Jvm.Cond.methodLink "java/util/TreeMap" (139 : Nat) ({ cls := "java/util/TreeMap", name := "addEntry", desc := "(Ljava/lang/Object;Ljava/lang/Object;Ljava/util/TreeMap$Entry;Z)V" } : Jvm.MethodName)) ∈ lw_all := lw_g (lw_at lw_m5 113 rfl) rfl
theorem q1109 : (Jvm.Cond.privateMethod ({ cls := "java/util/TreeMap", name := "addEntry", desc := "(Ljava/lang/Object;Ljava/lang/Object;Ljava/util/TreeMap$Entry;Z)V" } : Jvm.MethodName)) ∈ lw_tbl := lw_at lw_m5 114 rfl
theorem q1110 : (Jvm.Cond.instanceMethod ({ cls := "java/util/TreeMap", name := "addEntry", desc := "(Ljava/lang/Object;Ljava/lang/Object;Ljava/util/TreeMap$Entry;Z)V" } : Jvm.MethodName)) ∈ lw_all := lw_g (lw_at lw_m5 115 rfl) rfl
theorem q1111 : (Jvm.Cond.code ({ cls := "java/util/TreeMap", name := "addEntry", desc := "(Ljava/lang/Object;Ljava/lang/Object;Ljava/util/TreeMap$Entry;Z)V" } : Jvm.MethodName) prog_61_method_29_code (6 : Nat) (Option.none : Option Jvm.ClassFile.FieldType)) ∈ lw_all := lw_g (lw_at lw_m5 116 rfl) rfl
theorem q1112 : (Jvm.Cond.methodLink "java/util/TreeMap" (170 : Nat) ({ cls := "java/util/TreeMap", name := "fixAfterInsertion", desc := "(Ljava/util/TreeMap$Entry;)V" } : Jvm.MethodName)) ∈ lw_all := lw_g (lw_at lw_m5 117 rfl) rfl
theorem q1113 : (Jvm.Cond.privateMethod ({ cls := "java/util/TreeMap", name := "fixAfterInsertion", desc := "(Ljava/util/TreeMap$Entry;)V" } : Jvm.MethodName)) ∈ lw_tbl := lw_at lw_m5 118 rfl
theorem q1114 : (Jvm.Cond.instanceMethod ({ cls := "java/util/TreeMap", name := "fixAfterInsertion", desc := "(Ljava/util/TreeMap$Entry;)V" } : Jvm.MethodName)) ∈ lw_all := lw_g (lw_at lw_m5 119 rfl) rfl
theorem q1115 : (Jvm.Cond.code ({ cls := "java/util/TreeMap", name := "fixAfterInsertion", desc := "(Ljava/util/TreeMap$Entry;)V" } : Jvm.MethodName) prog_61_method_83_code (3 : Nat) (Option.none : Option Jvm.ClassFile.FieldType)) ∈ lw_all := lw_g (lw_at lw_m5 120 rfl) rfl
theorem q1116 : (Jvm.Cond.methodLink "java/util/TreeMap" (294 : Nat) ({ cls := "java/util/TreeMap", name := "parentOf", desc := "(Ljava/util/TreeMap$Entry;)Ljava/util/TreeMap$Entry;" } : Jvm.MethodName)) ∈ lw_all := lw_g (lw_at lw_m5 121 rfl) rfl
theorem q1117 : (Jvm.Cond.static ({ cls := "java/util/TreeMap", name := "parentOf", desc := "(Ljava/util/TreeMap$Entry;)Ljava/util/TreeMap$Entry;" } : Jvm.MethodName)) ∈ lw_all := lw_g (lw_at lw_m5 122 rfl) rfl
theorem q1118 : (Jvm.Cond.code ({ cls := "java/util/TreeMap", name := "parentOf", desc := "(Ljava/util/TreeMap$Entry;)Ljava/util/TreeMap$Entry;" } : Jvm.MethodName) prog_61_method_77_code (1 : Nat) (Option.some (Jvm.ClassFile.FieldType.object "java/util/TreeMap$Entry"))) ∈ lw_all := lw_g (lw_at lw_m5 123 rfl) rfl
theorem q1119 : (Jvm.Cond.methodLink "java/util/TreeMap" (297 : Nat) ({ cls := "java/util/TreeMap", name := "leftOf", desc := "(Ljava/util/TreeMap$Entry;)Ljava/util/TreeMap$Entry;" } : Jvm.MethodName)) ∈ lw_all := lw_g (lw_at lw_m5 124 rfl) rfl
theorem q1120 : (Jvm.Cond.static ({ cls := "java/util/TreeMap", name := "leftOf", desc := "(Ljava/util/TreeMap$Entry;)Ljava/util/TreeMap$Entry;" } : Jvm.MethodName)) ∈ lw_all := lw_g (lw_at lw_m5 125 rfl) rfl
theorem q1121 : (Jvm.Cond.code ({ cls := "java/util/TreeMap", name := "leftOf", desc := "(Ljava/util/TreeMap$Entry;)Ljava/util/TreeMap$Entry;" } : Jvm.MethodName) prog_61_method_79_code (1 : Nat) (Option.some (Jvm.ClassFile.FieldType.object "java/util/TreeMap$Entry"))) ∈ lw_all := lw_g (lw_at lw_m5 126 rfl) rfl
theorem q1122 : (Jvm.Cond.methodLink "java/util/TreeMap" (300 : Nat) ({ cls := "java/util/TreeMap", name := "rightOf", desc := "(Ljava/util/TreeMap$Entry;)Ljava/util/TreeMap$Entry;" } : Jvm.MethodName)) ∈ lw_all := lw_g (lw_at lw_m5 127 rfl) rfl
theorem q1123 : (Jvm.Cond.static ({ cls := "java/util/TreeMap", name := "rightOf", desc := "(Ljava/util/TreeMap$Entry;)Ljava/util/TreeMap$Entry;" } : Jvm.MethodName)) ∈ lw_all := lw_g (lw_at lw_m5 128 rfl) rfl
theorem q1124 : (Jvm.Cond.code ({ cls := "java/util/TreeMap", name := "rightOf", desc := "(Ljava/util/TreeMap$Entry;)Ljava/util/TreeMap$Entry;" } : Jvm.MethodName) prog_61_method_80_code (1 : Nat) (Option.some (Jvm.ClassFile.FieldType.object "java/util/TreeMap$Entry"))) ∈ lw_all := lw_g (lw_at lw_m5 129 rfl) rfl
theorem q1125 : (Jvm.Cond.methodLink "java/util/TreeMap" (303 : Nat) ({ cls := "java/util/TreeMap", name := "colorOf", desc := "(Ljava/util/TreeMap$Entry;)Z" } : Jvm.MethodName)) ∈ lw_all := lw_g (lw_at lw_m5 130 rfl) rfl
theorem q1126 : (Jvm.Cond.static ({ cls := "java/util/TreeMap", name := "colorOf", desc := "(Ljava/util/TreeMap$Entry;)Z" } : Jvm.MethodName)) ∈ lw_all := lw_g (lw_at lw_m5 131 rfl) rfl
theorem q1127 : (Jvm.Cond.code ({ cls := "java/util/TreeMap", name := "colorOf", desc := "(Ljava/util/TreeMap$Entry;)Z" } : Jvm.MethodName) prog_61_method_76_code (1 : Nat) (Option.some Jvm.ClassFile.FieldType.boolean)) ∈ lw_all := lw_g (lw_at lw_m5 132 rfl) rfl
theorem q1128 : (Jvm.Cond.methodLink "java/util/TreeMap" (307 : Nat) ({ cls := "java/util/TreeMap", name := "setColor", desc := "(Ljava/util/TreeMap$Entry;Z)V" } : Jvm.MethodName)) ∈ lw_all := lw_g (lw_at lw_m5 133 rfl) rfl
theorem q1129 : (Jvm.Cond.static ({ cls := "java/util/TreeMap", name := "setColor", desc := "(Ljava/util/TreeMap$Entry;Z)V" } : Jvm.MethodName)) ∈ lw_all := lw_g (lw_at lw_m5 134 rfl) rfl
theorem q1130 : (Jvm.Cond.code ({ cls := "java/util/TreeMap", name := "setColor", desc := "(Ljava/util/TreeMap$Entry;Z)V" } : Jvm.MethodName) prog_61_method_78_code (2 : Nat) (Option.none : Option Jvm.ClassFile.FieldType)) ∈ lw_all := lw_g (lw_at lw_m5 135 rfl) rfl
theorem q1131 : (Jvm.Cond.methodLink "java/util/TreeMap" (311 : Nat) ({ cls := "java/util/TreeMap", name := "rotateLeft", desc := "(Ljava/util/TreeMap$Entry;)V" } : Jvm.MethodName)) ∈ lw_all := lw_g (lw_at lw_m5 136 rfl) rfl
theorem q1132 : (Jvm.Cond.privateMethod ({ cls := "java/util/TreeMap", name := "rotateLeft", desc := "(Ljava/util/TreeMap$Entry;)V" } : Jvm.MethodName)) ∈ lw_tbl := lw_at lw_m5 137 rfl
theorem q1133 : (Jvm.Cond.instanceMethod ({ cls := "java/util/TreeMap", name := "rotateLeft", desc := "(Ljava/util/TreeMap$Entry;)V" } : Jvm.MethodName)) ∈ lw_all := lw_g (lw_at lw_m5 138 rfl) rfl
theorem q1134 : (Jvm.Cond.code ({ cls := "java/util/TreeMap", name := "rotateLeft", desc := "(Ljava/util/TreeMap$Entry;)V" } : Jvm.MethodName) prog_61_method_81_code (3 : Nat) (Option.none : Option Jvm.ClassFile.FieldType)) ∈ lw_all := lw_g (lw_at lw_m5 139 rfl) rfl
theorem q1135 : (Jvm.Cond.methodLink "java/util/TreeMap" (314 : Nat) ({ cls := "java/util/TreeMap", name := "rotateRight", desc := "(Ljava/util/TreeMap$Entry;)V" } : Jvm.MethodName)) ∈ lw_all := lw_g (lw_at lw_m5 140 rfl) rfl
theorem q1136 : (Jvm.Cond.privateMethod ({ cls := "java/util/TreeMap", name := "rotateRight", desc := "(Ljava/util/TreeMap$Entry;)V" } : Jvm.MethodName)) ∈ lw_tbl := lw_at lw_m5 141 rfl
theorem q1137 : (Jvm.Cond.instanceMethod ({ cls := "java/util/TreeMap", name := "rotateRight", desc := "(Ljava/util/TreeMap$Entry;)V" } : Jvm.MethodName)) ∈ lw_all := lw_g (lw_at lw_m5 142 rfl) rfl
theorem q1138 : (Jvm.Cond.code ({ cls := "java/util/TreeMap", name := "rotateRight", desc := "(Ljava/util/TreeMap$Entry;)V" } : Jvm.MethodName) prog_61_method_82_code (3 : Nat) (Option.none : Option Jvm.ClassFile.FieldType)) ∈ lw_all := lw_g (lw_at lw_m5 143 rfl) rfl
theorem q1786 : (Jvm.Cond.castable "java/util/TreeMap" "java/lang/Object") ∈ lw_tbl := lw_at lw_m8 71 rfl
theorem in_J1 : ∀ w ∈ wsJ10, w ∈ lw_all := lw_in wsJ10 [128, 130, 114, 116, 118, 120, 122, 124, 126] (by decide +kernel) (by decide +kernel)

/-! java/lang/AbstractStringBuilder -/
set_option maxRecDepth 100000
def RJ11 : String := "java/lang/AbstractStringBuilder"
abbrev cJ11_init : ByteArray := prog_15_method_2_code
def yJ11_init : MethodName := ⟨RJ11, "<init>", "(I)V"⟩
def dkwJ11_init_1 : List UInt8 := [167, 0, 16, 42, 27, 184, 0, 26, 181, 0, 15, 42, 4, 181, 0, 22, 177]
abbrev dktJ11_init_1 : List UInt8 := dkwJ11_init_1 ++ []
def dkwJ11_init_0 : List UInt8 := [42, 183, 0, 3, 178, 0, 18, 153, 0, 18, 42, 27, 188, 8, 181, 0, 15, 42, 3, 181, 0, 22]
abbrev dktJ11_init_0 : List UInt8 := dkwJ11_init_0 ++ dktJ11_init_1
theorem dksJ11_init_0 : cJ11_init.data.toList.drop 0 = dktJ11_init_0 := by decide +kernel
theorem dksJ11_init_1 : cJ11_init.data.toList.drop 22 = dktJ11_init_1 := dk_seg dksJ11_init_0 22 rfl rfl
theorem dJ11_init_0 : decode cJ11_init 0 = .ok (.aload_n 0, 1) := dk_42 (dk_at dksJ11_init_0 0 rfl rfl)
theorem dJ11_init_1 : decode cJ11_init 1 = .ok (.invokespecial 3, 3) := dk_183 0 3 (dk_at dksJ11_init_0 1 rfl rfl)
theorem dJ11_init_4 : decode cJ11_init 4 = .ok (.getstatic 18, 3) := dk_178 0 18 (dk_at dksJ11_init_0 4 rfl rfl)
theorem dJ11_init_7 : decode cJ11_init 7 = .ok (.ifCond .eq 18, 3) := dk_153 0 18 (dk_at dksJ11_init_0 7 rfl rfl)
theorem dJ11_init_10 : decode cJ11_init 10 = .ok (.aload_n 0, 1) := dk_42 (dk_at dksJ11_init_0 10 rfl rfl)
theorem dJ11_init_11 : decode cJ11_init 11 = .ok (.iload_n 1, 1) := dk_27 (dk_at dksJ11_init_0 11 rfl rfl)
theorem dJ11_init_12 : decode cJ11_init 12 = .ok (.newarray .byte, 2) := dk_188_8 (dk_at dksJ11_init_0 12 rfl rfl)
theorem dJ11_init_14 : decode cJ11_init 14 = .ok (.putfield 15, 3) := dk_181 0 15 (dk_at dksJ11_init_0 14 rfl rfl)
theorem dJ11_init_17 : decode cJ11_init 17 = .ok (.aload_n 0, 1) := dk_42 (dk_at dksJ11_init_0 17 rfl rfl)
theorem dJ11_init_18 : decode cJ11_init 18 = .ok (.iconst 0, 1) := dk_3 (dk_at dksJ11_init_0 18 rfl rfl)
theorem dJ11_init_19 : decode cJ11_init 19 = .ok (.putfield 22, 3) := dk_181 0 22 (dk_at dksJ11_init_0 19 rfl rfl)
theorem dJ11_init_22 : decode cJ11_init 22 = .ok (.goto 16, 3) := dk_167 0 16 (dk_at dksJ11_init_1 0 rfl rfl)
theorem dJ11_init_25 : decode cJ11_init 25 = .ok (.aload_n 0, 1) := dk_42 (dk_at dksJ11_init_1 3 rfl rfl)
theorem dJ11_init_26 : decode cJ11_init 26 = .ok (.iload_n 1, 1) := dk_27 (dk_at dksJ11_init_1 4 rfl rfl)
theorem dJ11_init_27 : decode cJ11_init 27 = .ok (.invokestatic 26, 3) := dk_184 0 26 (dk_at dksJ11_init_1 5 rfl rfl)
theorem dJ11_init_30 : decode cJ11_init 30 = .ok (.putfield 15, 3) := dk_181 0 15 (dk_at dksJ11_init_1 8 rfl rfl)
theorem dJ11_init_33 : decode cJ11_init 33 = .ok (.aload_n 0, 1) := dk_42 (dk_at dksJ11_init_1 11 rfl rfl)
theorem dJ11_init_34 : decode cJ11_init 34 = .ok (.iconst 1, 1) := dk_4 (dk_at dksJ11_init_1 12 rfl rfl)
theorem dJ11_init_35 : decode cJ11_init 35 = .ok (.putfield 22, 3) := dk_181 0 22 (dk_at dksJ11_init_1 13 rfl rfl)
theorem dJ11_init_38 : decode cJ11_init 38 = .ok (.return_, 1) := dk_177 (dk_at dksJ11_init_1 16 rfl rfl)
abbrev cJ11_append : ByteArray := prog_15_method_22_code
def yJ11_append : MethodName := ⟨RJ11, "append", "(Ljava/lang/String;)Ljava/lang/AbstractStringBuilder;"⟩
def dkwJ11_append_1 : List UInt8 := [42, 42, 180, 0, 79, 43, 182, 0, 208, 42, 89, 180, 0, 79, 28, 96, 181, 0, 79, 42, 176]
abbrev dktJ11_append_1 : List UInt8 := dkwJ11_append_1 ++ []
def dkwJ11_append_0 : List UInt8 := [43, 199, 0, 8, 42, 182, 0, 204, 176, 43, 182, 0, 32, 61, 42, 42, 180, 0, 79, 28, 96, 182, 0, 100]
abbrev dktJ11_append_0 : List UInt8 := dkwJ11_append_0 ++ dktJ11_append_1
theorem dksJ11_append_0 : cJ11_append.data.toList.drop 0 = dktJ11_append_0 := by decide +kernel
theorem dksJ11_append_1 : cJ11_append.data.toList.drop 24 = dktJ11_append_1 := dk_seg dksJ11_append_0 24 rfl rfl
theorem dJ11_append_0 : decode cJ11_append 0 = .ok (.aload_n 1, 1) := dk_43 (dk_at dksJ11_append_0 0 rfl rfl)
theorem dJ11_append_1 : decode cJ11_append 1 = .ok (.ifnonnull 8, 3) := dk_199 0 8 (dk_at dksJ11_append_0 1 rfl rfl)
theorem dJ11_append_4 : decode cJ11_append 4 = .ok (.aload_n 0, 1) := dk_42 (dk_at dksJ11_append_0 4 rfl rfl)
theorem dJ11_append_5 : decode cJ11_append 5 = .ok (.invokevirtual 204, 3) := dk_182 0 204 (dk_at dksJ11_append_0 5 rfl rfl)
theorem dJ11_append_8 : decode cJ11_append 8 = .ok (.areturn, 1) := dk_176 (dk_at dksJ11_append_0 8 rfl rfl)
theorem dJ11_append_9 : decode cJ11_append 9 = .ok (.aload_n 1, 1) := dk_43 (dk_at dksJ11_append_0 9 rfl rfl)
theorem dJ11_append_10 : decode cJ11_append 10 = .ok (.invokevirtual 32, 3) := dk_182 0 32 (dk_at dksJ11_append_0 10 rfl rfl)
theorem dJ11_append_13 : decode cJ11_append 13 = .ok (.istore_n 2, 1) := dk_61 (dk_at dksJ11_append_0 13 rfl rfl)
theorem dJ11_append_14 : decode cJ11_append 14 = .ok (.aload_n 0, 1) := dk_42 (dk_at dksJ11_append_0 14 rfl rfl)
theorem dJ11_append_15 : decode cJ11_append 15 = .ok (.aload_n 0, 1) := dk_42 (dk_at dksJ11_append_0 15 rfl rfl)
theorem dJ11_append_16 : decode cJ11_append 16 = .ok (.getfield 79, 3) := dk_180 0 79 (dk_at dksJ11_append_0 16 rfl rfl)
theorem dJ11_append_19 : decode cJ11_append 19 = .ok (.iload_n 2, 1) := dk_28 (dk_at dksJ11_append_0 19 rfl rfl)
theorem dJ11_append_20 : decode cJ11_append 20 = .ok (.iadd, 1) := dk_96 (dk_at dksJ11_append_0 20 rfl rfl)
theorem dJ11_append_21 : decode cJ11_append 21 = .ok (.invokevirtual 100, 3) := dk_182 0 100 (dk_at dksJ11_append_0 21 rfl rfl)
theorem dJ11_append_24 : decode cJ11_append 24 = .ok (.aload_n 0, 1) := dk_42 (dk_at dksJ11_append_1 0 rfl rfl)
theorem dJ11_append_25 : decode cJ11_append 25 = .ok (.aload_n 0, 1) := dk_42 (dk_at dksJ11_append_1 1 rfl rfl)
theorem dJ11_append_26 : decode cJ11_append 26 = .ok (.getfield 79, 3) := dk_180 0 79 (dk_at dksJ11_append_1 2 rfl rfl)
theorem dJ11_append_29 : decode cJ11_append 29 = .ok (.aload_n 1, 1) := dk_43 (dk_at dksJ11_append_1 5 rfl rfl)
theorem dJ11_append_30 : decode cJ11_append 30 = .ok (.invokevirtual 208, 3) := dk_182 0 208 (dk_at dksJ11_append_1 6 rfl rfl)
theorem dJ11_append_33 : decode cJ11_append 33 = .ok (.aload_n 0, 1) := dk_42 (dk_at dksJ11_append_1 9 rfl rfl)
theorem dJ11_append_34 : decode cJ11_append 34 = .ok (.dup, 1) := dk_89 (dk_at dksJ11_append_1 10 rfl rfl)
theorem dJ11_append_35 : decode cJ11_append 35 = .ok (.getfield 79, 3) := dk_180 0 79 (dk_at dksJ11_append_1 11 rfl rfl)
theorem dJ11_append_38 : decode cJ11_append 38 = .ok (.iload_n 2, 1) := dk_28 (dk_at dksJ11_append_1 14 rfl rfl)
theorem dJ11_append_39 : decode cJ11_append 39 = .ok (.iadd, 1) := dk_96 (dk_at dksJ11_append_1 15 rfl rfl)
theorem dJ11_append_40 : decode cJ11_append 40 = .ok (.putfield 79, 3) := dk_181 0 79 (dk_at dksJ11_append_1 16 rfl rfl)
theorem dJ11_append_43 : decode cJ11_append 43 = .ok (.aload_n 0, 1) := dk_42 (dk_at dksJ11_append_1 19 rfl rfl)
theorem dJ11_append_44 : decode cJ11_append 44 = .ok (.areturn, 1) := dk_176 (dk_at dksJ11_append_1 20 rfl rfl)
abbrev cJ11_ensureCapacityInternal : ByteArray := prog_15_method_9_code
def yJ11_ensureCapacityInternal : MethodName := ⟨RJ11, "ensureCapacityInternal", "(I)V"⟩
def dkwJ11_ensureCapacityInternal_1 : List UInt8 := [182, 0, 104, 42, 180, 0, 22, 120, 184, 0, 108, 181, 0, 15, 177]
abbrev dktJ11_ensureCapacityInternal_1 : List UInt8 := dkwJ11_ensureCapacityInternal_1 ++ []
def dkwJ11_ensureCapacityInternal_0 : List UInt8 := [42, 180, 0, 15, 190, 42, 180, 0, 22, 122, 61, 27, 28, 100, 158, 0, 24, 42, 42, 180, 0, 15, 42, 27]
abbrev dktJ11_ensureCapacityInternal_0 : List UInt8 := dkwJ11_ensureCapacityInternal_0 ++ dktJ11_ensureCapacityInternal_1
theorem dksJ11_ensureCapacityInternal_0 : cJ11_ensureCapacityInternal.data.toList.drop 0 = dktJ11_ensureCapacityInternal_0 := by decide +kernel
theorem dksJ11_ensureCapacityInternal_1 : cJ11_ensureCapacityInternal.data.toList.drop 24 = dktJ11_ensureCapacityInternal_1 := dk_seg dksJ11_ensureCapacityInternal_0 24 rfl rfl
theorem dJ11_ensureCapacityInternal_0 : decode cJ11_ensureCapacityInternal 0 = .ok (.aload_n 0, 1) := dk_42 (dk_at dksJ11_ensureCapacityInternal_0 0 rfl rfl)
theorem dJ11_ensureCapacityInternal_1 : decode cJ11_ensureCapacityInternal 1 = .ok (.getfield 15, 3) := dk_180 0 15 (dk_at dksJ11_ensureCapacityInternal_0 1 rfl rfl)
theorem dJ11_ensureCapacityInternal_4 : decode cJ11_ensureCapacityInternal 4 = .ok (.arraylength, 1) := dk_190 (dk_at dksJ11_ensureCapacityInternal_0 4 rfl rfl)
theorem dJ11_ensureCapacityInternal_5 : decode cJ11_ensureCapacityInternal 5 = .ok (.aload_n 0, 1) := dk_42 (dk_at dksJ11_ensureCapacityInternal_0 5 rfl rfl)
theorem dJ11_ensureCapacityInternal_6 : decode cJ11_ensureCapacityInternal 6 = .ok (.getfield 22, 3) := dk_180 0 22 (dk_at dksJ11_ensureCapacityInternal_0 6 rfl rfl)
theorem dJ11_ensureCapacityInternal_9 : decode cJ11_ensureCapacityInternal 9 = .ok (.ishr, 1) := dk_122 (dk_at dksJ11_ensureCapacityInternal_0 9 rfl rfl)
theorem dJ11_ensureCapacityInternal_10 : decode cJ11_ensureCapacityInternal 10 = .ok (.istore_n 2, 1) := dk_61 (dk_at dksJ11_ensureCapacityInternal_0 10 rfl rfl)
theorem dJ11_ensureCapacityInternal_11 : decode cJ11_ensureCapacityInternal 11 = .ok (.iload_n 1, 1) := dk_27 (dk_at dksJ11_ensureCapacityInternal_0 11 rfl rfl)
theorem dJ11_ensureCapacityInternal_12 : decode cJ11_ensureCapacityInternal 12 = .ok (.iload_n 2, 1) := dk_28 (dk_at dksJ11_ensureCapacityInternal_0 12 rfl rfl)
theorem dJ11_ensureCapacityInternal_13 : decode cJ11_ensureCapacityInternal 13 = .ok (.isub, 1) := dk_100 (dk_at dksJ11_ensureCapacityInternal_0 13 rfl rfl)
theorem dJ11_ensureCapacityInternal_14 : decode cJ11_ensureCapacityInternal 14 = .ok (.ifCond .le 24, 3) := dk_158 0 24 (dk_at dksJ11_ensureCapacityInternal_0 14 rfl rfl)
theorem dJ11_ensureCapacityInternal_17 : decode cJ11_ensureCapacityInternal 17 = .ok (.aload_n 0, 1) := dk_42 (dk_at dksJ11_ensureCapacityInternal_0 17 rfl rfl)
theorem dJ11_ensureCapacityInternal_18 : decode cJ11_ensureCapacityInternal 18 = .ok (.aload_n 0, 1) := dk_42 (dk_at dksJ11_ensureCapacityInternal_0 18 rfl rfl)
theorem dJ11_ensureCapacityInternal_19 : decode cJ11_ensureCapacityInternal 19 = .ok (.getfield 15, 3) := dk_180 0 15 (dk_at dksJ11_ensureCapacityInternal_0 19 rfl rfl)
theorem dJ11_ensureCapacityInternal_22 : decode cJ11_ensureCapacityInternal 22 = .ok (.aload_n 0, 1) := dk_42 (dk_at dksJ11_ensureCapacityInternal_0 22 rfl rfl)
theorem dJ11_ensureCapacityInternal_23 : decode cJ11_ensureCapacityInternal 23 = .ok (.iload_n 1, 1) := dk_27 (dk_at dksJ11_ensureCapacityInternal_0 23 rfl rfl)
theorem dJ11_ensureCapacityInternal_24 : decode cJ11_ensureCapacityInternal 24 = .ok (.invokevirtual 104, 3) := dk_182 0 104 (dk_at dksJ11_ensureCapacityInternal_1 0 rfl rfl)
theorem dJ11_ensureCapacityInternal_27 : decode cJ11_ensureCapacityInternal 27 = .ok (.aload_n 0, 1) := dk_42 (dk_at dksJ11_ensureCapacityInternal_1 3 rfl rfl)
theorem dJ11_ensureCapacityInternal_28 : decode cJ11_ensureCapacityInternal 28 = .ok (.getfield 22, 3) := dk_180 0 22 (dk_at dksJ11_ensureCapacityInternal_1 4 rfl rfl)
theorem dJ11_ensureCapacityInternal_31 : decode cJ11_ensureCapacityInternal 31 = .ok (.ishl, 1) := dk_120 (dk_at dksJ11_ensureCapacityInternal_1 7 rfl rfl)
theorem dJ11_ensureCapacityInternal_32 : decode cJ11_ensureCapacityInternal 32 = .ok (.invokestatic 108, 3) := dk_184 0 108 (dk_at dksJ11_ensureCapacityInternal_1 8 rfl rfl)
theorem dJ11_ensureCapacityInternal_35 : decode cJ11_ensureCapacityInternal 35 = .ok (.putfield 15, 3) := dk_181 0 15 (dk_at dksJ11_ensureCapacityInternal_1 11 rfl rfl)
theorem dJ11_ensureCapacityInternal_38 : decode cJ11_ensureCapacityInternal 38 = .ok (.return_, 1) := dk_177 (dk_at dksJ11_ensureCapacityInternal_1 14 rfl rfl)
abbrev cJ11_newCapacity : ByteArray := prog_15_method_10_code
def yJ11_newCapacity : MethodName := ⟨RJ11, "newCapacity", "(I)I"⟩
def dkwJ11_newCapacity_2 : List UInt8 := [183, 0, 124, 191, 21, 5, 42, 180, 0, 22, 122, 172]
abbrev dktJ11_newCapacity_2 : List UInt8 := dkwJ11_newCapacity_2 ++ []
def dkwJ11_newCapacity_1 : List UInt8 := [180, 0, 22, 120, 96, 184, 0, 114, 54, 5, 21, 5, 18, 39, 160, 0, 13, 187, 0, 120, 89, 18, 122]
abbrev dktJ11_newCapacity_1 : List UInt8 := dkwJ11_newCapacity_1 ++ dktJ11_newCapacity_2
def dkwJ11_newCapacity_0 : List UInt8 := [42, 180, 0, 15, 190, 61, 27, 42, 180, 0, 22, 120, 62, 29, 28, 100, 54, 4, 28, 21, 4, 28, 5, 42]
abbrev dktJ11_newCapacity_0 : List UInt8 := dkwJ11_newCapacity_0 ++ dktJ11_newCapacity_1
theorem dksJ11_newCapacity_0 : cJ11_newCapacity.data.toList.drop 0 = dktJ11_newCapacity_0 := by decide +kernel
theorem dksJ11_newCapacity_1 : cJ11_newCapacity.data.toList.drop 24 = dktJ11_newCapacity_1 := dk_seg dksJ11_newCapacity_0 24 rfl rfl
theorem dksJ11_newCapacity_2 : cJ11_newCapacity.data.toList.drop 47 = dktJ11_newCapacity_2 := dk_seg dksJ11_newCapacity_1 23 rfl rfl
theorem dJ11_newCapacity_0 : decode cJ11_newCapacity 0 = .ok (.aload_n 0, 1) := dk_42 (dk_at dksJ11_newCapacity_0 0 rfl rfl)
theorem dJ11_newCapacity_1 : decode cJ11_newCapacity 1 = .ok (.getfield 15, 3) := dk_180 0 15 (dk_at dksJ11_newCapacity_0 1 rfl rfl)
theorem dJ11_newCapacity_4 : decode cJ11_newCapacity 4 = .ok (.arraylength, 1) := dk_190 (dk_at dksJ11_newCapacity_0 4 rfl rfl)
theorem dJ11_newCapacity_5 : decode cJ11_newCapacity 5 = .ok (.istore_n 2, 1) := dk_61 (dk_at dksJ11_newCapacity_0 5 rfl rfl)
theorem dJ11_newCapacity_6 : decode cJ11_newCapacity 6 = .ok (.iload_n 1, 1) := dk_27 (dk_at dksJ11_newCapacity_0 6 rfl rfl)
theorem dJ11_newCapacity_7 : decode cJ11_newCapacity 7 = .ok (.aload_n 0, 1) := dk_42 (dk_at dksJ11_newCapacity_0 7 rfl rfl)
theorem dJ11_newCapacity_8 : decode cJ11_newCapacity 8 = .ok (.getfield 22, 3) := dk_180 0 22 (dk_at dksJ11_newCapacity_0 8 rfl rfl)
theorem dJ11_newCapacity_11 : decode cJ11_newCapacity 11 = .ok (.ishl, 1) := dk_120 (dk_at dksJ11_newCapacity_0 11 rfl rfl)
theorem dJ11_newCapacity_12 : decode cJ11_newCapacity 12 = .ok (.istore_n 3, 1) := dk_62 (dk_at dksJ11_newCapacity_0 12 rfl rfl)
theorem dJ11_newCapacity_13 : decode cJ11_newCapacity 13 = .ok (.iload_n 3, 1) := dk_29 (dk_at dksJ11_newCapacity_0 13 rfl rfl)
theorem dJ11_newCapacity_14 : decode cJ11_newCapacity 14 = .ok (.iload_n 2, 1) := dk_28 (dk_at dksJ11_newCapacity_0 14 rfl rfl)
theorem dJ11_newCapacity_15 : decode cJ11_newCapacity 15 = .ok (.isub, 1) := dk_100 (dk_at dksJ11_newCapacity_0 15 rfl rfl)
theorem dJ11_newCapacity_16 : decode cJ11_newCapacity 16 = .ok (.istore 4, 2) := dk_54 4 (dk_at dksJ11_newCapacity_0 16 rfl rfl)
theorem dJ11_newCapacity_18 : decode cJ11_newCapacity 18 = .ok (.iload_n 2, 1) := dk_28 (dk_at dksJ11_newCapacity_0 18 rfl rfl)
theorem dJ11_newCapacity_19 : decode cJ11_newCapacity 19 = .ok (.iload 4, 2) := dk_21 4 (dk_at dksJ11_newCapacity_0 19 rfl rfl)
theorem dJ11_newCapacity_21 : decode cJ11_newCapacity 21 = .ok (.iload_n 2, 1) := dk_28 (dk_at dksJ11_newCapacity_0 21 rfl rfl)
theorem dJ11_newCapacity_22 : decode cJ11_newCapacity 22 = .ok (.iconst 2, 1) := dk_5 (dk_at dksJ11_newCapacity_0 22 rfl rfl)
theorem dJ11_newCapacity_23 : decode cJ11_newCapacity 23 = .ok (.aload_n 0, 1) := dk_42 (dk_at dksJ11_newCapacity_0 23 rfl rfl)
theorem dJ11_newCapacity_24 : decode cJ11_newCapacity 24 = .ok (.getfield 22, 3) := dk_180 0 22 (dk_at dksJ11_newCapacity_1 0 rfl rfl)
theorem dJ11_newCapacity_27 : decode cJ11_newCapacity 27 = .ok (.ishl, 1) := dk_120 (dk_at dksJ11_newCapacity_1 3 rfl rfl)
theorem dJ11_newCapacity_28 : decode cJ11_newCapacity 28 = .ok (.iadd, 1) := dk_96 (dk_at dksJ11_newCapacity_1 4 rfl rfl)
theorem dJ11_newCapacity_29 : decode cJ11_newCapacity 29 = .ok (.invokestatic 114, 3) := dk_184 0 114 (dk_at dksJ11_newCapacity_1 5 rfl rfl)
theorem dJ11_newCapacity_32 : decode cJ11_newCapacity 32 = .ok (.istore 5, 2) := dk_54 5 (dk_at dksJ11_newCapacity_1 8 rfl rfl)
theorem dJ11_newCapacity_34 : decode cJ11_newCapacity 34 = .ok (.iload 5, 2) := dk_21 5 (dk_at dksJ11_newCapacity_1 10 rfl rfl)
theorem dJ11_newCapacity_36 : decode cJ11_newCapacity 36 = .ok (.ldc 39, 2) := dk_18 39 (dk_at dksJ11_newCapacity_1 12 rfl rfl)
theorem dJ11_newCapacity_38 : decode cJ11_newCapacity 38 = .ok (.if_icmp .ne 13, 3) := dk_160 0 13 (dk_at dksJ11_newCapacity_1 14 rfl rfl)
theorem dJ11_newCapacity_41 : decode cJ11_newCapacity 41 = .ok (.new 120, 3) := dk_187 0 120 (dk_at dksJ11_newCapacity_1 17 rfl rfl)
theorem dJ11_newCapacity_44 : decode cJ11_newCapacity 44 = .ok (.dup, 1) := dk_89 (dk_at dksJ11_newCapacity_1 20 rfl rfl)
theorem dJ11_newCapacity_45 : decode cJ11_newCapacity 45 = .ok (.ldc 122, 2) := dk_18 122 (dk_at dksJ11_newCapacity_1 21 rfl rfl)
theorem dJ11_newCapacity_47 : decode cJ11_newCapacity 47 = .ok (.invokespecial 124, 3) := dk_183 0 124 (dk_at dksJ11_newCapacity_2 0 rfl rfl)
theorem dJ11_newCapacity_50 : decode cJ11_newCapacity 50 = .ok (.athrow, 1) := dk_191 (dk_at dksJ11_newCapacity_2 3 rfl rfl)
theorem dJ11_newCapacity_51 : decode cJ11_newCapacity 51 = .ok (.iload 5, 2) := dk_21 5 (dk_at dksJ11_newCapacity_2 4 rfl rfl)
theorem dJ11_newCapacity_53 : decode cJ11_newCapacity 53 = .ok (.aload_n 0, 1) := dk_42 (dk_at dksJ11_newCapacity_2 6 rfl rfl)
theorem dJ11_newCapacity_54 : decode cJ11_newCapacity 54 = .ok (.getfield 22, 3) := dk_180 0 22 (dk_at dksJ11_newCapacity_2 7 rfl rfl)
theorem dJ11_newCapacity_57 : decode cJ11_newCapacity 57 = .ok (.ishr, 1) := dk_122 (dk_at dksJ11_newCapacity_2 10 rfl rfl)
theorem dJ11_newCapacity_58 : decode cJ11_newCapacity 58 = .ok (.ireturn, 1) := dk_172 (dk_at dksJ11_newCapacity_2 11 rfl rfl)
abbrev cJ11_isLatin1 : ByteArray := prog_15_method_68_code
def yJ11_isLatin1 : MethodName := ⟨RJ11, "isLatin1", "()Z"⟩
def dkwJ11_isLatin1_0 : List UInt8 := [178, 0, 18, 153, 0, 14, 42, 180, 0, 22, 154, 0, 7, 4, 167, 0, 4, 3, 172]
abbrev dktJ11_isLatin1_0 : List UInt8 := dkwJ11_isLatin1_0 ++ []
theorem dksJ11_isLatin1_0 : cJ11_isLatin1.data.toList.drop 0 = dktJ11_isLatin1_0 := by decide +kernel
theorem dJ11_isLatin1_0 : decode cJ11_isLatin1 0 = .ok (.getstatic 18, 3) := dk_178 0 18 (dk_at dksJ11_isLatin1_0 0 rfl rfl)
theorem dJ11_isLatin1_3 : decode cJ11_isLatin1 3 = .ok (.ifCond .eq 14, 3) := dk_153 0 14 (dk_at dksJ11_isLatin1_0 3 rfl rfl)
theorem dJ11_isLatin1_6 : decode cJ11_isLatin1 6 = .ok (.aload_n 0, 1) := dk_42 (dk_at dksJ11_isLatin1_0 6 rfl rfl)
theorem dJ11_isLatin1_7 : decode cJ11_isLatin1 7 = .ok (.getfield 22, 3) := dk_180 0 22 (dk_at dksJ11_isLatin1_0 7 rfl rfl)
theorem dJ11_isLatin1_10 : decode cJ11_isLatin1 10 = .ok (.ifCond .ne 7, 3) := dk_154 0 7 (dk_at dksJ11_isLatin1_0 10 rfl rfl)
theorem dJ11_isLatin1_13 : decode cJ11_isLatin1 13 = .ok (.iconst 1, 1) := dk_4 (dk_at dksJ11_isLatin1_0 13 rfl rfl)
theorem dJ11_isLatin1_14 : decode cJ11_isLatin1 14 = .ok (.goto 4, 3) := dk_167 0 4 (dk_at dksJ11_isLatin1_0 14 rfl rfl)
theorem dJ11_isLatin1_17 : decode cJ11_isLatin1 17 = .ok (.iconst 0, 1) := dk_3 (dk_at dksJ11_isLatin1_0 17 rfl rfl)
theorem dJ11_isLatin1_18 : decode cJ11_isLatin1 18 = .ok (.ireturn, 1) := dk_172 (dk_at dksJ11_isLatin1_0 18 rfl rfl)
abbrev cJ11_putStringAt : ByteArray := prog_15_method_73_code
def yJ11_putStringAt : MethodName := ⟨RJ11, "putStringAt", "(ILjava/lang/String;)V"⟩
def dkwJ11_putStringAt_0 : List UInt8 := [42, 44, 182, 1, 141, 44, 42, 180, 0, 15, 27, 42, 180, 0, 22, 182, 1, 143, 177]
abbrev dktJ11_putStringAt_0 : List UInt8 := dkwJ11_putStringAt_0 ++ []
theorem dksJ11_putStringAt_0 : cJ11_putStringAt.data.toList.drop 0 = dktJ11_putStringAt_0 := by decide +kernel
theorem dJ11_putStringAt_0 : decode cJ11_putStringAt 0 = .ok (.aload_n 0, 1) := dk_42 (dk_at dksJ11_putStringAt_0 0 rfl rfl)
theorem dJ11_putStringAt_1 : decode cJ11_putStringAt 1 = .ok (.aload_n 2, 1) := dk_44 (dk_at dksJ11_putStringAt_0 1 rfl rfl)
theorem dJ11_putStringAt_2 : decode cJ11_putStringAt 2 = .ok (.invokevirtual 397, 3) := dk_182 1 141 (dk_at dksJ11_putStringAt_0 2 rfl rfl)
theorem dJ11_putStringAt_5 : decode cJ11_putStringAt 5 = .ok (.aload_n 2, 1) := dk_44 (dk_at dksJ11_putStringAt_0 5 rfl rfl)
theorem dJ11_putStringAt_6 : decode cJ11_putStringAt 6 = .ok (.aload_n 0, 1) := dk_42 (dk_at dksJ11_putStringAt_0 6 rfl rfl)
theorem dJ11_putStringAt_7 : decode cJ11_putStringAt 7 = .ok (.getfield 15, 3) := dk_180 0 15 (dk_at dksJ11_putStringAt_0 7 rfl rfl)
theorem dJ11_putStringAt_10 : decode cJ11_putStringAt 10 = .ok (.iload_n 1, 1) := dk_27 (dk_at dksJ11_putStringAt_0 10 rfl rfl)
theorem dJ11_putStringAt_11 : decode cJ11_putStringAt 11 = .ok (.aload_n 0, 1) := dk_42 (dk_at dksJ11_putStringAt_0 11 rfl rfl)
theorem dJ11_putStringAt_12 : decode cJ11_putStringAt 12 = .ok (.getfield 22, 3) := dk_180 0 22 (dk_at dksJ11_putStringAt_0 12 rfl rfl)
theorem dJ11_putStringAt_15 : decode cJ11_putStringAt 15 = .ok (.invokevirtual 399, 3) := dk_182 1 143 (dk_at dksJ11_putStringAt_0 15 rfl rfl)
theorem dJ11_putStringAt_18 : decode cJ11_putStringAt 18 = .ok (.return_, 1) := dk_177 (dk_at dksJ11_putStringAt_0 18 rfl rfl)
abbrev cJ11_inflateIfNeededFor : ByteArray := prog_15_method_71_code
def yJ11_inflateIfNeededFor : MethodName := ⟨RJ11, "inflateIfNeededFor", "(Ljava/lang/String;)V"⟩
def dkwJ11_inflateIfNeededFor_0 : List UInt8 := [178, 0, 18, 153, 0, 18, 42, 180, 0, 22, 43, 182, 0, 40, 159, 0, 7, 42, 182, 0, 195, 177]
abbrev dktJ11_inflateIfNeededFor_0 : List UInt8 := dkwJ11_inflateIfNeededFor_0 ++ []
theorem dksJ11_inflateIfNeededFor_0 : cJ11_inflateIfNeededFor.data.toList.drop 0 = dktJ11_inflateIfNeededFor_0 := by decide +kernel
theorem dJ11_inflateIfNeededFor_0 : decode cJ11_inflateIfNeededFor 0 = .ok (.getstatic 18, 3) := dk_178 0 18 (dk_at dksJ11_inflateIfNeededFor_0 0 rfl rfl)
theorem dJ11_inflateIfNeededFor_3 : decode cJ11_inflateIfNeededFor 3 = .ok (.ifCond .eq 18, 3) := dk_153 0 18 (dk_at dksJ11_inflateIfNeededFor_0 3 rfl rfl)
theorem dJ11_inflateIfNeededFor_6 : decode cJ11_inflateIfNeededFor 6 = .ok (.aload_n 0, 1) := dk_42 (dk_at dksJ11_inflateIfNeededFor_0 6 rfl rfl)
theorem dJ11_inflateIfNeededFor_7 : decode cJ11_inflateIfNeededFor 7 = .ok (.getfield 22, 3) := dk_180 0 22 (dk_at dksJ11_inflateIfNeededFor_0 7 rfl rfl)
theorem dJ11_inflateIfNeededFor_10 : decode cJ11_inflateIfNeededFor 10 = .ok (.aload_n 1, 1) := dk_43 (dk_at dksJ11_inflateIfNeededFor_0 10 rfl rfl)
theorem dJ11_inflateIfNeededFor_11 : decode cJ11_inflateIfNeededFor 11 = .ok (.invokevirtual 40, 3) := dk_182 0 40 (dk_at dksJ11_inflateIfNeededFor_0 11 rfl rfl)
theorem dJ11_inflateIfNeededFor_14 : decode cJ11_inflateIfNeededFor 14 = .ok (.if_icmp .eq 7, 3) := dk_159 0 7 (dk_at dksJ11_inflateIfNeededFor_0 14 rfl rfl)
theorem dJ11_inflateIfNeededFor_17 : decode cJ11_inflateIfNeededFor 17 = .ok (.aload_n 0, 1) := dk_42 (dk_at dksJ11_inflateIfNeededFor_0 17 rfl rfl)
theorem dJ11_inflateIfNeededFor_18 : decode cJ11_inflateIfNeededFor 18 = .ok (.invokevirtual 195, 3) := dk_182 0 195 (dk_at dksJ11_inflateIfNeededFor_0 18 rfl rfl)
theorem dJ11_inflateIfNeededFor_21 : decode cJ11_inflateIfNeededFor 21 = .ok (.return_, 1) := dk_177 (dk_at dksJ11_inflateIfNeededFor_0 21 rfl rfl)
abbrev cJ11_append_2 : ByteArray := prog_15_method_31_code
def yJ11_append_2 : MethodName := ⟨RJ11, "append", "(C)Ljava/lang/AbstractStringBuilder;"⟩
def dkwJ11_append_2_3 : List UInt8 := [181, 0, 79, 27, 184, 0, 197, 42, 176]
abbrev dktJ11_append_2_3 : List UInt8 := dkwJ11_append_2_3 ++ []
def dkwJ11_append_2_2 : List UInt8 := [182, 0, 83, 153, 0, 7, 42, 182, 0, 195, 42, 180, 0, 15, 42, 89, 180, 0, 79, 90, 4, 96]
abbrev dktJ11_append_2_2 : List UInt8 := dkwJ11_append_2_2 ++ dktJ11_append_2_3
def dkwJ11_append_2_1 : List UInt8 := [42, 180, 0, 15, 42, 89, 180, 0, 79, 90, 4, 96, 181, 0, 79, 27, 145, 84, 167, 0, 33, 42]
abbrev dktJ11_append_2_1 : List UInt8 := dkwJ11_append_2_1 ++ dktJ11_append_2_2
def dkwJ11_append_2_0 : List UInt8 := [42, 42, 180, 0, 79, 4, 96, 182, 0, 100, 42, 182, 0, 83, 153, 0, 31, 27, 184, 0, 191, 153, 0, 24]
abbrev dktJ11_append_2_0 : List UInt8 := dkwJ11_append_2_0 ++ dktJ11_append_2_1
theorem dksJ11_append_2_0 : cJ11_append_2.data.toList.drop 0 = dktJ11_append_2_0 := by decide +kernel
theorem dksJ11_append_2_1 : cJ11_append_2.data.toList.drop 24 = dktJ11_append_2_1 := dk_seg dksJ11_append_2_0 24 rfl rfl
theorem dksJ11_append_2_2 : cJ11_append_2.data.toList.drop 46 = dktJ11_append_2_2 := dk_seg dksJ11_append_2_1 22 rfl rfl
theorem dksJ11_append_2_3 : cJ11_append_2.data.toList.drop 68 = dktJ11_append_2_3 := dk_seg dksJ11_append_2_2 22 rfl rfl
theorem dJ11_append_2_0 : decode cJ11_append_2 0 = .ok (.aload_n 0, 1) := dk_42 (dk_at dksJ11_append_2_0 0 rfl rfl)
theorem dJ11_append_2_1 : decode cJ11_append_2 1 = .ok (.aload_n 0, 1) := dk_42 (dk_at dksJ11_append_2_0 1 rfl rfl)
theorem dJ11_append_2_2 : decode cJ11_append_2 2 = .ok (.getfield 79, 3) := dk_180 0 79 (dk_at dksJ11_append_2_0 2 rfl rfl)
theorem dJ11_append_2_5 : decode cJ11_append_2 5 = .ok (.iconst 1, 1) := dk_4 (dk_at dksJ11_append_2_0 5 rfl rfl)
theorem dJ11_append_2_6 : decode cJ11_append_2 6 = .ok (.iadd, 1) := dk_96 (dk_at dksJ11_append_2_0 6 rfl rfl)
theorem dJ11_append_2_7 : decode cJ11_append_2 7 = .ok (.invokevirtual 100, 3) := dk_182 0 100 (dk_at dksJ11_append_2_0 7 rfl rfl)
theorem dJ11_append_2_10 : decode cJ11_append_2 10 = .ok (.aload_n 0, 1) := dk_42 (dk_at dksJ11_append_2_0 10 rfl rfl)
theorem dJ11_append_2_11 : decode cJ11_append_2 11 = .ok (.invokevirtual 83, 3) := dk_182 0 83 (dk_at dksJ11_append_2_0 11 rfl rfl)
theorem dJ11_append_2_14 : decode cJ11_append_2 14 = .ok (.ifCond .eq 31, 3) := dk_153 0 31 (dk_at dksJ11_append_2_0 14 rfl rfl)
theorem dJ11_append_2_17 : decode cJ11_append_2 17 = .ok (.iload_n 1, 1) := dk_27 (dk_at dksJ11_append_2_0 17 rfl rfl)
theorem dJ11_append_2_18 : decode cJ11_append_2 18 = .ok (.invokestatic 191, 3) := dk_184 0 191 (dk_at dksJ11_append_2_0 18 rfl rfl)
theorem dJ11_append_2_21 : decode cJ11_append_2 21 = .ok (.ifCond .eq 24, 3) := dk_153 0 24 (dk_at dksJ11_append_2_0 21 rfl rfl)
theorem dJ11_append_2_24 : decode cJ11_append_2 24 = .ok (.aload_n 0, 1) := dk_42 (dk_at dksJ11_append_2_1 0 rfl rfl)
theorem dJ11_append_2_25 : decode cJ11_append_2 25 = .ok (.getfield 15, 3) := dk_180 0 15 (dk_at dksJ11_append_2_1 1 rfl rfl)
theorem dJ11_append_2_28 : decode cJ11_append_2 28 = .ok (.aload_n 0, 1) := dk_42 (dk_at dksJ11_append_2_1 4 rfl rfl)
theorem dJ11_append_2_29 : decode cJ11_append_2 29 = .ok (.dup, 1) := dk_89 (dk_at dksJ11_append_2_1 5 rfl rfl)
theorem dJ11_append_2_30 : decode cJ11_append_2 30 = .ok (.getfield 79, 3) := dk_180 0 79 (dk_at dksJ11_append_2_1 6 rfl rfl)
theorem dJ11_append_2_33 : decode cJ11_append_2 33 = .ok (.dup_x1, 1) := dk_90 (dk_at dksJ11_append_2_1 9 rfl rfl)
theorem dJ11_append_2_34 : decode cJ11_append_2 34 = .ok (.iconst 1, 1) := dk_4 (dk_at dksJ11_append_2_1 10 rfl rfl)
theorem dJ11_append_2_35 : decode cJ11_append_2 35 = .ok (.iadd, 1) := dk_96 (dk_at dksJ11_append_2_1 11 rfl rfl)
theorem dJ11_append_2_36 : decode cJ11_append_2 36 = .ok (.putfield 79, 3) := dk_181 0 79 (dk_at dksJ11_append_2_1 12 rfl rfl)
theorem dJ11_append_2_39 : decode cJ11_append_2 39 = .ok (.iload_n 1, 1) := dk_27 (dk_at dksJ11_append_2_1 15 rfl rfl)
theorem dJ11_append_2_40 : decode cJ11_append_2 40 = .ok (.i2b, 1) := dk_145 (dk_at dksJ11_append_2_1 16 rfl rfl)
theorem dJ11_append_2_41 : decode cJ11_append_2 41 = .ok (.bastore, 1) := dk_84 (dk_at dksJ11_append_2_1 17 rfl rfl)
theorem dJ11_append_2_42 : decode cJ11_append_2 42 = .ok (.goto 33, 3) := dk_167 0 33 (dk_at dksJ11_append_2_1 18 rfl rfl)
theorem dJ11_append_2_45 : decode cJ11_append_2 45 = .ok (.aload_n 0, 1) := dk_42 (dk_at dksJ11_append_2_1 21 rfl rfl)
theorem dJ11_append_2_46 : decode cJ11_append_2 46 = .ok (.invokevirtual 83, 3) := dk_182 0 83 (dk_at dksJ11_append_2_2 0 rfl rfl)
theorem dJ11_append_2_49 : decode cJ11_append_2 49 = .ok (.ifCond .eq 7, 3) := dk_153 0 7 (dk_at dksJ11_append_2_2 3 rfl rfl)
theorem dJ11_append_2_52 : decode cJ11_append_2 52 = .ok (.aload_n 0, 1) := dk_42 (dk_at dksJ11_append_2_2 6 rfl rfl)
theorem dJ11_append_2_53 : decode cJ11_append_2 53 = .ok (.invokevirtual 195, 3) := dk_182 0 195 (dk_at dksJ11_append_2_2 7 rfl rfl)
theorem dJ11_append_2_56 : decode cJ11_append_2 56 = .ok (.aload_n 0, 1) := dk_42 (dk_at dksJ11_append_2_2 10 rfl rfl)
theorem dJ11_append_2_57 : decode cJ11_append_2 57 = .ok (.getfield 15, 3) := dk_180 0 15 (dk_at dksJ11_append_2_2 11 rfl rfl)
theorem dJ11_append_2_60 : decode cJ11_append_2 60 = .ok (.aload_n 0, 1) := dk_42 (dk_at dksJ11_append_2_2 14 rfl rfl)
theorem dJ11_append_2_61 : decode cJ11_append_2 61 = .ok (.dup, 1) := dk_89 (dk_at dksJ11_append_2_2 15 rfl rfl)
theorem dJ11_append_2_62 : decode cJ11_append_2 62 = .ok (.getfield 79, 3) := dk_180 0 79 (dk_at dksJ11_append_2_2 16 rfl rfl)
theorem dJ11_append_2_65 : decode cJ11_append_2 65 = .ok (.dup_x1, 1) := dk_90 (dk_at dksJ11_append_2_2 19 rfl rfl)
theorem dJ11_append_2_66 : decode cJ11_append_2 66 = .ok (.iconst 1, 1) := dk_4 (dk_at dksJ11_append_2_2 20 rfl rfl)
theorem dJ11_append_2_67 : decode cJ11_append_2 67 = .ok (.iadd, 1) := dk_96 (dk_at dksJ11_append_2_2 21 rfl rfl)
theorem dJ11_append_2_68 : decode cJ11_append_2 68 = .ok (.putfield 79, 3) := dk_181 0 79 (dk_at dksJ11_append_2_3 0 rfl rfl)
theorem dJ11_append_2_71 : decode cJ11_append_2 71 = .ok (.iload_n 1, 1) := dk_27 (dk_at dksJ11_append_2_3 3 rfl rfl)
theorem dJ11_append_2_72 : decode cJ11_append_2 72 = .ok (.invokestatic 197, 3) := dk_184 0 197 (dk_at dksJ11_append_2_3 4 rfl rfl)
theorem dJ11_append_2_75 : decode cJ11_append_2 75 = .ok (.aload_n 0, 1) := dk_42 (dk_at dksJ11_append_2_3 7 rfl rfl)
theorem dJ11_append_2_76 : decode cJ11_append_2 76 = .ok (.areturn, 1) := dk_176 (dk_at dksJ11_append_2_3 8 rfl rfl)
abbrev cJ11_getValue : ByteArray := prog_15_method_64_code
def yJ11_getValue : MethodName := ⟨RJ11, "getValue", "()[B"⟩
theorem dJ11_getValue_0 : decode cJ11_getValue 0 = .ok (.aload_n 0, 1) := by decide +kernel
theorem dJ11_getValue_1 : decode cJ11_getValue 1 = .ok (.getfield 15, 3) := by decide +kernel
theorem dJ11_getValue_4 : decode cJ11_getValue 4 = .ok (.areturn, 1) := by decide +kernel
abbrev cJ11_length : ByteArray := prog_15_method_6_code
def yJ11_length : MethodName := ⟨RJ11, "length", "()I"⟩
theorem dJ11_length_0 : decode cJ11_length 0 = .ok (.aload_n 0, 1) := by decide +kernel
theorem dJ11_length_1 : decode cJ11_length 1 = .ok (.getfield 79, 3) := by decide +kernel
theorem dJ11_length_4 : decode cJ11_length 4 = .ok (.ireturn, 1) := by decide +kernel
abbrev cJ11_append_3 : ByteArray := prog_15_method_32_code
def yJ11_append_3 : MethodName := ⟨RJ11, "append", "(I)Ljava/lang/AbstractStringBuilder;"⟩
def dkwJ11_append_3_2 : List UInt8 := [42, 29, 181, 0, 79, 42, 176]
abbrev dktJ11_append_3_2 : List UInt8 := dkwJ11_append_3_2 ++ []
def dkwJ11_append_3_1 : List UInt8 := [27, 29, 42, 180, 0, 15, 184, 0, 248, 87, 167, 0, 14, 27, 28, 29, 42, 180, 0, 15, 184, 0, 251, 87]
abbrev dktJ11_append_3_1 : List UInt8 := dkwJ11_append_3_1 ++ dktJ11_append_3_2
def dkwJ11_append_3_0 : List UInt8 := [42, 180, 0, 79, 61, 28, 27, 184, 0, 245, 96, 62, 42, 29, 182, 0, 100, 42, 182, 0, 83, 153, 0, 16]
abbrev dktJ11_append_3_0 : List UInt8 := dkwJ11_append_3_0 ++ dktJ11_append_3_1
theorem dksJ11_append_3_0 : cJ11_append_3.data.toList.drop 0 = dktJ11_append_3_0 := by decide +kernel
theorem dksJ11_append_3_1 : cJ11_append_3.data.toList.drop 24 = dktJ11_append_3_1 := dk_seg dksJ11_append_3_0 24 rfl rfl
theorem dksJ11_append_3_2 : cJ11_append_3.data.toList.drop 48 = dktJ11_append_3_2 := dk_seg dksJ11_append_3_1 24 rfl rfl
theorem dJ11_append_3_0 : decode cJ11_append_3 0 = .ok (.aload_n 0, 1) := dk_42 (dk_at dksJ11_append_3_0 0 rfl rfl)
theorem dJ11_append_3_1 : decode cJ11_append_3 1 = .ok (.getfield 79, 3) := dk_180 0 79 (dk_at dksJ11_append_3_0 1 rfl rfl)
theorem dJ11_append_3_4 : decode cJ11_append_3 4 = .ok (.istore_n 2, 1) := dk_61 (dk_at dksJ11_append_3_0 4 rfl rfl)
theorem dJ11_append_3_5 : decode cJ11_append_3 5 = .ok (.iload_n 2, 1) := dk_28 (dk_at dksJ11_append_3_0 5 rfl rfl)
theorem dJ11_append_3_6 : decode cJ11_append_3 6 = .ok (.iload_n 1, 1) := dk_27 (dk_at dksJ11_append_3_0 6 rfl rfl)
theorem dJ11_append_3_7 : decode cJ11_append_3 7 = .ok (.invokestatic 245, 3) := dk_184 0 245 (dk_at dksJ11_append_3_0 7 rfl rfl)
theorem dJ11_append_3_10 : decode cJ11_append_3 10 = .ok (.iadd, 1) := dk_96 (dk_at dksJ11_append_3_0 10 rfl rfl)
theorem dJ11_append_3_11 : decode cJ11_append_3 11 = .ok (.istore_n 3, 1) := dk_62 (dk_at dksJ11_append_3_0 11 rfl rfl)
theorem dJ11_append_3_12 : decode cJ11_append_3 12 = .ok (.aload_n 0, 1) := dk_42 (dk_at dksJ11_append_3_0 12 rfl rfl)
theorem dJ11_append_3_13 : decode cJ11_append_3 13 = .ok (.iload_n 3, 1) := dk_29 (dk_at dksJ11_append_3_0 13 rfl rfl)
theorem dJ11_append_3_14 : decode cJ11_append_3 14 = .ok (.invokevirtual 100, 3) := dk_182 0 100 (dk_at dksJ11_append_3_0 14 rfl rfl)
theorem dJ11_append_3_17 : decode cJ11_append_3 17 = .ok (.aload_n 0, 1) := dk_42 (dk_at dksJ11_append_3_0 17 rfl rfl)
theorem dJ11_append_3_18 : decode cJ11_append_3 18 = .ok (.invokevirtual 83, 3) := dk_182 0 83 (dk_at dksJ11_append_3_0 18 rfl rfl)
theorem dJ11_append_3_21 : decode cJ11_append_3 21 = .ok (.ifCond .eq 16, 3) := dk_153 0 16 (dk_at dksJ11_append_3_0 21 rfl rfl)
theorem dJ11_append_3_24 : decode cJ11_append_3 24 = .ok (.iload_n 1, 1) := dk_27 (dk_at dksJ11_append_3_1 0 rfl rfl)
theorem dJ11_append_3_25 : decode cJ11_append_3 25 = .ok (.iload_n 3, 1) := dk_29 (dk_at dksJ11_append_3_1 1 rfl rfl)
theorem dJ11_append_3_26 : decode cJ11_append_3 26 = .ok (.aload_n 0, 1) := dk_42 (dk_at dksJ11_append_3_1 2 rfl rfl)
theorem dJ11_append_3_27 : decode cJ11_append_3 27 = .ok (.getfield 15, 3) := dk_180 0 15 (dk_at dksJ11_append_3_1 3 rfl rfl)
theorem dJ11_append_3_30 : decode cJ11_append_3 30 = .ok (.invokestatic 248, 3) := dk_184 0 248 (dk_at dksJ11_append_3_1 6 rfl rfl)
theorem dJ11_append_3_33 : decode cJ11_append_3 33 = .ok (.pop, 1) := dk_87 (dk_at dksJ11_append_3_1 9 rfl rfl)
theorem dJ11_append_3_34 : decode cJ11_append_3 34 = .ok (.goto 14, 3) := dk_167 0 14 (dk_at dksJ11_append_3_1 10 rfl rfl)
theorem dJ11_append_3_37 : decode cJ11_append_3 37 = .ok (.iload_n 1, 1) := dk_27 (dk_at dksJ11_append_3_1 13 rfl rfl)
theorem dJ11_append_3_38 : decode cJ11_append_3 38 = .ok (.iload_n 2, 1) := dk_28 (dk_at dksJ11_append_3_1 14 rfl rfl)
theorem dJ11_append_3_39 : decode cJ11_append_3 39 = .ok (.iload_n 3, 1) := dk_29 (dk_at dksJ11_append_3_1 15 rfl rfl)
theorem dJ11_append_3_40 : decode cJ11_append_3 40 = .ok (.aload_n 0, 1) := dk_42 (dk_at dksJ11_append_3_1 16 rfl rfl)
theorem dJ11_append_3_41 : decode cJ11_append_3 41 = .ok (.getfield 15, 3) := dk_180 0 15 (dk_at dksJ11_append_3_1 17 rfl rfl)
theorem dJ11_append_3_44 : decode cJ11_append_3 44 = .ok (.invokestatic 251, 3) := dk_184 0 251 (dk_at dksJ11_append_3_1 20 rfl rfl)
theorem dJ11_append_3_47 : decode cJ11_append_3 47 = .ok (.pop, 1) := dk_87 (dk_at dksJ11_append_3_1 23 rfl rfl)
theorem dJ11_append_3_48 : decode cJ11_append_3 48 = .ok (.aload_n 0, 1) := dk_42 (dk_at dksJ11_append_3_2 0 rfl rfl)
theorem dJ11_append_3_49 : decode cJ11_append_3 49 = .ok (.iload_n 3, 1) := dk_29 (dk_at dksJ11_append_3_2 1 rfl rfl)
theorem dJ11_append_3_50 : decode cJ11_append_3 50 = .ok (.putfield 79, 3) := dk_181 0 79 (dk_at dksJ11_append_3_2 2 rfl rfl)
theorem dJ11_append_3_53 : decode cJ11_append_3 53 = .ok (.aload_n 0, 1) := dk_42 (dk_at dksJ11_append_3_2 5 rfl rfl)
theorem dJ11_append_3_54 : decode cJ11_append_3 54 = .ok (.areturn, 1) := dk_176 (dk_at dksJ11_append_3_2 6 rfl rfl)
abbrev cJ11_insert : ByteArray := prog_15_method_51_code
def yJ11_insert : MethodName := ⟨RJ11, "insert", "(IC)Ljava/lang/AbstractStringBuilder;"⟩
def dkwJ11_insert_3 : List UInt8 := [180, 0, 15, 27, 28, 184, 0, 197, 42, 176]
abbrev dktJ11_insert_3 : List UInt8 := dkwJ11_insert_3 ++ []
def dkwJ11_insert_2 : List UInt8 := [42, 180, 0, 15, 27, 28, 145, 84, 167, 0, 23, 42, 182, 0, 83, 153, 0, 7, 42, 182, 0, 195, 42]
abbrev dktJ11_insert_2 : List UInt8 := dkwJ11_insert_2 ++ dktJ11_insert_3
def dkwJ11_insert_1 : List UInt8 := [42, 89, 180, 0, 79, 4, 96, 181, 0, 79, 42, 182, 0, 83, 153, 0, 21, 28, 184, 0, 191, 153, 0, 14]
abbrev dktJ11_insert_1 : List UInt8 := dkwJ11_insert_1 ++ dktJ11_insert_2
def dkwJ11_insert_0 : List UInt8 := [27, 42, 180, 0, 79, 184, 1, 59, 42, 42, 180, 0, 79, 4, 96, 182, 0, 100, 42, 27, 4, 182, 1, 27]
abbrev dktJ11_insert_0 : List UInt8 := dkwJ11_insert_0 ++ dktJ11_insert_1
theorem dksJ11_insert_0 : cJ11_insert.data.toList.drop 0 = dktJ11_insert_0 := by decide +kernel
theorem dksJ11_insert_1 : cJ11_insert.data.toList.drop 24 = dktJ11_insert_1 := dk_seg dksJ11_insert_0 24 rfl rfl
theorem dksJ11_insert_2 : cJ11_insert.data.toList.drop 48 = dktJ11_insert_2 := dk_seg dksJ11_insert_1 24 rfl rfl
theorem dksJ11_insert_3 : cJ11_insert.data.toList.drop 71 = dktJ11_insert_3 := dk_seg dksJ11_insert_2 23 rfl rfl
theorem dJ11_insert_0 : decode cJ11_insert 0 = .ok (.iload_n 1, 1) := dk_27 (dk_at dksJ11_insert_0 0 rfl rfl)
theorem dJ11_insert_1 : decode cJ11_insert 1 = .ok (.aload_n 0, 1) := dk_42 (dk_at dksJ11_insert_0 1 rfl rfl)
theorem dJ11_insert_2 : decode cJ11_insert 2 = .ok (.getfield 79, 3) := dk_180 0 79 (dk_at dksJ11_insert_0 2 rfl rfl)
theorem dJ11_insert_5 : decode cJ11_insert 5 = .ok (.invokestatic 315, 3) := dk_184 1 59 (dk_at dksJ11_insert_0 5 rfl rfl)
theorem dJ11_insert_8 : decode cJ11_insert 8 = .ok (.aload_n 0, 1) := dk_42 (dk_at dksJ11_insert_0 8 rfl rfl)
theorem dJ11_insert_9 : decode cJ11_insert 9 = .ok (.aload_n 0, 1) := dk_42 (dk_at dksJ11_insert_0 9 rfl rfl)
theorem dJ11_insert_10 : decode cJ11_insert 10 = .ok (.getfield 79, 3) := dk_180 0 79 (dk_at dksJ11_insert_0 10 rfl rfl)
theorem dJ11_insert_13 : decode cJ11_insert 13 = .ok (.iconst 1, 1) := dk_4 (dk_at dksJ11_insert_0 13 rfl rfl)
theorem dJ11_insert_14 : decode cJ11_insert 14 = .ok (.iadd, 1) := dk_96 (dk_at dksJ11_insert_0 14 rfl rfl)
theorem dJ11_insert_15 : decode cJ11_insert 15 = .ok (.invokevirtual 100, 3) := dk_182 0 100 (dk_at dksJ11_insert_0 15 rfl rfl)
theorem dJ11_insert_18 : decode cJ11_insert 18 = .ok (.aload_n 0, 1) := dk_42 (dk_at dksJ11_insert_0 18 rfl rfl)
theorem dJ11_insert_19 : decode cJ11_insert 19 = .ok (.iload_n 1, 1) := dk_27 (dk_at dksJ11_insert_0 19 rfl rfl)
theorem dJ11_insert_20 : decode cJ11_insert 20 = .ok (.iconst 1, 1) := dk_4 (dk_at dksJ11_insert_0 20 rfl rfl)
theorem dJ11_insert_21 : decode cJ11_insert 21 = .ok (.invokevirtual 283, 3) := dk_182 1 27 (dk_at dksJ11_insert_0 21 rfl rfl)
theorem dJ11_insert_24 : decode cJ11_insert 24 = .ok (.aload_n 0, 1) := dk_42 (dk_at dksJ11_insert_1 0 rfl rfl)
theorem dJ11_insert_25 : decode cJ11_insert 25 = .ok (.dup, 1) := dk_89 (dk_at dksJ11_insert_1 1 rfl rfl)
theorem dJ11_insert_26 : decode cJ11_insert 26 = .ok (.getfield 79, 3) := dk_180 0 79 (dk_at dksJ11_insert_1 2 rfl rfl)
theorem dJ11_insert_29 : decode cJ11_insert 29 = .ok (.iconst 1, 1) := dk_4 (dk_at dksJ11_insert_1 5 rfl rfl)
theorem dJ11_insert_30 : decode cJ11_insert 30 = .ok (.iadd, 1) := dk_96 (dk_at dksJ11_insert_1 6 rfl rfl)
theorem dJ11_insert_31 : decode cJ11_insert 31 = .ok (.putfield 79, 3) := dk_181 0 79 (dk_at dksJ11_insert_1 7 rfl rfl)
theorem dJ11_insert_34 : decode cJ11_insert 34 = .ok (.aload_n 0, 1) := dk_42 (dk_at dksJ11_insert_1 10 rfl rfl)
theorem dJ11_insert_35 : decode cJ11_insert 35 = .ok (.invokevirtual 83, 3) := dk_182 0 83 (dk_at dksJ11_insert_1 11 rfl rfl)
theorem dJ11_insert_38 : decode cJ11_insert 38 = .ok (.ifCond .eq 21, 3) := dk_153 0 21 (dk_at dksJ11_insert_1 14 rfl rfl)
theorem dJ11_insert_41 : decode cJ11_insert 41 = .ok (.iload_n 2, 1) := dk_28 (dk_at dksJ11_insert_1 17 rfl rfl)
theorem dJ11_insert_42 : decode cJ11_insert 42 = .ok (.invokestatic 191, 3) := dk_184 0 191 (dk_at dksJ11_insert_1 18 rfl rfl)
theorem dJ11_insert_45 : decode cJ11_insert 45 = .ok (.ifCond .eq 14, 3) := dk_153 0 14 (dk_at dksJ11_insert_1 21 rfl rfl)
theorem dJ11_insert_48 : decode cJ11_insert 48 = .ok (.aload_n 0, 1) := dk_42 (dk_at dksJ11_insert_2 0 rfl rfl)
theorem dJ11_insert_49 : decode cJ11_insert 49 = .ok (.getfield 15, 3) := dk_180 0 15 (dk_at dksJ11_insert_2 1 rfl rfl)
theorem dJ11_insert_52 : decode cJ11_insert 52 = .ok (.iload_n 1, 1) := dk_27 (dk_at dksJ11_insert_2 4 rfl rfl)
theorem dJ11_insert_53 : decode cJ11_insert 53 = .ok (.iload_n 2, 1) := dk_28 (dk_at dksJ11_insert_2 5 rfl rfl)
theorem dJ11_insert_54 : decode cJ11_insert 54 = .ok (.i2b, 1) := dk_145 (dk_at dksJ11_insert_2 6 rfl rfl)
theorem dJ11_insert_55 : decode cJ11_insert 55 = .ok (.bastore, 1) := dk_84 (dk_at dksJ11_insert_2 7 rfl rfl)
theorem dJ11_insert_56 : decode cJ11_insert 56 = .ok (.goto 23, 3) := dk_167 0 23 (dk_at dksJ11_insert_2 8 rfl rfl)
theorem dJ11_insert_59 : decode cJ11_insert 59 = .ok (.aload_n 0, 1) := dk_42 (dk_at dksJ11_insert_2 11 rfl rfl)
theorem dJ11_insert_60 : decode cJ11_insert 60 = .ok (.invokevirtual 83, 3) := dk_182 0 83 (dk_at dksJ11_insert_2 12 rfl rfl)
theorem dJ11_insert_63 : decode cJ11_insert 63 = .ok (.ifCond .eq 7, 3) := dk_153 0 7 (dk_at dksJ11_insert_2 15 rfl rfl)
theorem dJ11_insert_66 : decode cJ11_insert 66 = .ok (.aload_n 0, 1) := dk_42 (dk_at dksJ11_insert_2 18 rfl rfl)
theorem dJ11_insert_67 : decode cJ11_insert 67 = .ok (.invokevirtual 195, 3) := dk_182 0 195 (dk_at dksJ11_insert_2 19 rfl rfl)
theorem dJ11_insert_70 : decode cJ11_insert 70 = .ok (.aload_n 0, 1) := dk_42 (dk_at dksJ11_insert_2 22 rfl rfl)
theorem dJ11_insert_71 : decode cJ11_insert 71 = .ok (.getfield 15, 3) := dk_180 0 15 (dk_at dksJ11_insert_3 0 rfl rfl)
theorem dJ11_insert_74 : decode cJ11_insert 74 = .ok (.iload_n 1, 1) := dk_27 (dk_at dksJ11_insert_3 3 rfl rfl)
theorem dJ11_insert_75 : decode cJ11_insert 75 = .ok (.iload_n 2, 1) := dk_28 (dk_at dksJ11_insert_3 4 rfl rfl)
theorem dJ11_insert_76 : decode cJ11_insert 76 = .ok (.invokestatic 197, 3) := dk_184 0 197 (dk_at dksJ11_insert_3 5 rfl rfl)
theorem dJ11_insert_79 : decode cJ11_insert 79 = .ok (.aload_n 0, 1) := dk_42 (dk_at dksJ11_insert_3 8 rfl rfl)
theorem dJ11_insert_80 : decode cJ11_insert 80 = .ok (.areturn, 1) := dk_176 (dk_at dksJ11_insert_3 9 rfl rfl)
abbrev cJ11_shift : ByteArray := prog_15_method_43_code
def yJ11_shift : MethodName := ⟨RJ11, "shift", "(II)V"⟩
def dkwJ11_shift_1 : List UInt8 := [180, 0, 79, 27, 100, 42, 180, 0, 22, 120, 184, 1, 53, 177]
abbrev dktJ11_shift_1 : List UInt8 := dkwJ11_shift_1 ++ []
def dkwJ11_shift_0 : List UInt8 := [42, 180, 0, 15, 27, 42, 180, 0, 22, 120, 42, 180, 0, 15, 27, 28, 96, 42, 180, 0, 22, 120, 42]
abbrev dktJ11_shift_0 : List UInt8 := dkwJ11_shift_0 ++ dktJ11_shift_1
theorem dksJ11_shift_0 : cJ11_shift.data.toList.drop 0 = dktJ11_shift_0 := by decide +kernel
theorem dksJ11_shift_1 : cJ11_shift.data.toList.drop 23 = dktJ11_shift_1 := dk_seg dksJ11_shift_0 23 rfl rfl
theorem dJ11_shift_0 : decode cJ11_shift 0 = .ok (.aload_n 0, 1) := dk_42 (dk_at dksJ11_shift_0 0 rfl rfl)
theorem dJ11_shift_1 : decode cJ11_shift 1 = .ok (.getfield 15, 3) := dk_180 0 15 (dk_at dksJ11_shift_0 1 rfl rfl)
theorem dJ11_shift_4 : decode cJ11_shift 4 = .ok (.iload_n 1, 1) := dk_27 (dk_at dksJ11_shift_0 4 rfl rfl)
theorem dJ11_shift_5 : decode cJ11_shift 5 = .ok (.aload_n 0, 1) := dk_42 (dk_at dksJ11_shift_0 5 rfl rfl)
theorem dJ11_shift_6 : decode cJ11_shift 6 = .ok (.getfield 22, 3) := dk_180 0 22 (dk_at dksJ11_shift_0 6 rfl rfl)
theorem dJ11_shift_9 : decode cJ11_shift 9 = .ok (.ishl, 1) := dk_120 (dk_at dksJ11_shift_0 9 rfl rfl)
theorem dJ11_shift_10 : decode cJ11_shift 10 = .ok (.aload_n 0, 1) := dk_42 (dk_at dksJ11_shift_0 10 rfl rfl)
theorem dJ11_shift_11 : decode cJ11_shift 11 = .ok (.getfield 15, 3) := dk_180 0 15 (dk_at dksJ11_shift_0 11 rfl rfl)
theorem dJ11_shift_14 : decode cJ11_shift 14 = .ok (.iload_n 1, 1) := dk_27 (dk_at dksJ11_shift_0 14 rfl rfl)
theorem dJ11_shift_15 : decode cJ11_shift 15 = .ok (.iload_n 2, 1) := dk_28 (dk_at dksJ11_shift_0 15 rfl rfl)
theorem dJ11_shift_16 : decode cJ11_shift 16 = .ok (.iadd, 1) := dk_96 (dk_at dksJ11_shift_0 16 rfl rfl)
theorem dJ11_shift_17 : decode cJ11_shift 17 = .ok (.aload_n 0, 1) := dk_42 (dk_at dksJ11_shift_0 17 rfl rfl)
theorem dJ11_shift_18 : decode cJ11_shift 18 = .ok (.getfield 22, 3) := dk_180 0 22 (dk_at dksJ11_shift_0 18 rfl rfl)
theorem dJ11_shift_21 : decode cJ11_shift 21 = .ok (.ishl, 1) := dk_120 (dk_at dksJ11_shift_0 21 rfl rfl)
theorem dJ11_shift_22 : decode cJ11_shift 22 = .ok (.aload_n 0, 1) := dk_42 (dk_at dksJ11_shift_0 22 rfl rfl)
theorem dJ11_shift_23 : decode cJ11_shift 23 = .ok (.getfield 79, 3) := dk_180 0 79 (dk_at dksJ11_shift_1 0 rfl rfl)
theorem dJ11_shift_26 : decode cJ11_shift 26 = .ok (.iload_n 1, 1) := dk_27 (dk_at dksJ11_shift_1 3 rfl rfl)
theorem dJ11_shift_27 : decode cJ11_shift 27 = .ok (.isub, 1) := dk_100 (dk_at dksJ11_shift_1 4 rfl rfl)
theorem dJ11_shift_28 : decode cJ11_shift 28 = .ok (.aload_n 0, 1) := dk_42 (dk_at dksJ11_shift_1 5 rfl rfl)
theorem dJ11_shift_29 : decode cJ11_shift 29 = .ok (.getfield 22, 3) := dk_180 0 22 (dk_at dksJ11_shift_1 6 rfl rfl)
theorem dJ11_shift_32 : decode cJ11_shift 32 = .ok (.ishl, 1) := dk_120 (dk_at dksJ11_shift_1 9 rfl rfl)
theorem dJ11_shift_33 : decode cJ11_shift 33 = .ok (.invokestatic 309, 3) := dk_184 1 53 (dk_at dksJ11_shift_1 10 rfl rfl)
theorem dJ11_shift_36 : decode cJ11_shift 36 = .ok (.return_, 1) := dk_177 (dk_at dksJ11_shift_1 13 rfl rfl)
theorem q53 : (Jvm.Cond.initialized "java/lang/AbstractStringBuilder") ∈ lw_all := lw_g (lw_at lw_m1 18 rfl) rfl
theorem q418 : (Jvm.Cond.instanceMethod ({ cls := "java/lang/AbstractStringBuilder", name := "<init>", desc := "(I)V" } : Jvm.MethodName)) ∈ lw_all := lw_g (lw_at lw_m2 143 rfl) rfl
theorem q419 : (Jvm.Cond.code ({ cls := "java/lang/AbstractStringBuilder", name := "<init>", desc := "(I)V" } : Jvm.MethodName) prog_15_method_2_code (2 : Nat) (Option.none : Option Jvm.ClassFile.FieldType)) ∈ lw_all := lw_g (lw_at lw_m2 144 rfl) rfl
theorem q420 : (Jvm.Cond.methodLink "java/lang/AbstractStringBuilder" (3 : Nat) ({ cls := "java/lang/Object", name := "<init>", desc := "()V" } : Jvm.MethodName)) ∈ lw_all := lw_g (lw_at lw_m2 145 rfl) rfl
theorem q421 : (Jvm.Cond.fieldLink "java/lang/AbstractStringBuilder" (18 : Nat) "java/lang/String" "COMPACT_STRINGS" "Z") ∈ lw_all := lw_g (lw_at lw_m2 146 rfl) rfl
theorem q422 : (Jvm.Cond.methodLink "java/lang/AbstractStringBuilder" (26 : Nat) ({ cls := "java/lang/StringUTF16", name := "newBytesFor", desc := "(I)[B" } : Jvm.MethodName)) ∈ lw_all := lw_g (lw_at lw_m2 147 rfl) rfl
theorem q429 : (Jvm.Cond.fieldLink "java/lang/AbstractStringBuilder" (15 : Nat) "java/lang/AbstractStringBuilder" "value" "[B") ∈ lw_all := lw_g (lw_at lw_m2 154 rfl) rfl
theorem q430 : (Jvm.Cond.fieldLink "java/lang/AbstractStringBuilder" (22 : Nat) "java/lang/AbstractStringBuilder" "coder" "B") ∈ lw_all := lw_g (lw_at lw_m2 155 rfl) rfl
theorem q432 : (Jvm.Cond.fieldLink "java/lang/AbstractStringBuilder" (79 : Nat) "java/lang/AbstractStringBuilder" "count" "I") ∈ lw_all := lw_g (lw_at lw_m2 157 rfl) rfl
theorem q434 : (Jvm.Cond.soleField "java/lang/AbstractStringBuilder" "value") ∈ lw_all := lw_g (lw_at lw_m2 159 rfl) rfl
theorem q436 : (Jvm.Cond.soleField "java/lang/AbstractStringBuilder" "coder") ∈ lw_all := lw_g (lw_at lw_m2 161 rfl) rfl
theorem q438 : (Jvm.Cond.soleField "java/lang/AbstractStringBuilder" "maybeLatin1") ∈ lw_all := lw_g (lw_at lw_m2 163 rfl) rfl
theorem q440 : (Jvm.Cond.soleField "java/lang/AbstractStringBuilder" "count") ∈ lw_all := lw_g (lw_at lw_m2 165 rfl) rfl
theorem q447 : (Jvm.Cond.instanceMethod ({ cls := "java/lang/AbstractStringBuilder", name := "append", desc := "(Ljava/lang/String;)Ljava/lang/AbstractStringBuilder;" } : Jvm.MethodName)) ∈ lw_all := lw_g (lw_at lw_m2 172 rfl) rfl
theorem q448 : (Jvm.Cond.code ({ cls := "java/lang/AbstractStringBuilder", name := "append", desc := "(Ljava/lang/String;)Ljava/lang/AbstractStringBuilder;" } : Jvm.MethodName) prog_15_method_22_code (3 : Nat) (Option.some (Jvm.ClassFile.FieldType.object "java/lang/AbstractStringBuilder"))) ∈ lw_all := lw_g (lw_at lw_m2 173 rfl) rfl
theorem q449 : (Jvm.Cond.methodLink "java/lang/AbstractStringBuilder" (204 : Nat) ({ cls := "java/lang/AbstractStringBuilder", name := "appendNull", desc := "()Ljava/lang/AbstractStringBuilder;" } : Jvm.MethodName)) ∈ lw_all := lw_g (lw_at lw_m2 174 rfl) rfl
theorem q450 : (Jvm.Cond.privateMethod ({ cls := "java/lang/AbstractStringBuilder", name := "appendNull", desc := "()Ljava/lang/AbstractStringBuilder;" } : Jvm.MethodName)) ∈ lw_tbl := lw_at lw_m2 175 rfl
theorem q451 : (Jvm.Cond.instanceMethod ({ cls := "java/lang/AbstractStringBuilder", name := "appendNull", desc := "()Ljava/lang/AbstractStringBuilder;" } : Jvm.MethodName)) ∈ lw_all := lw_g (lw_at lw_m2 176 rfl) rfl
theorem q452 : (Jvm.Cond.code ({ cls := "java/lang/AbstractStringBuilder", name := "appendNull", desc := "()Ljava/lang/AbstractStringBuilder;" } : Jvm.MethodName) prog_15_method_26_code (3 : Nat) (Option.some (Jvm.ClassFile.FieldType.object "java/lang/AbstractStringBuilder"))) ∈ lw_all := lw_g (lw_at lw_m2 177 rfl) rfl
theorem q453 : (Jvm.Cond.methodLink "java/lang/AbstractStringBuilder" (100 : Nat) ({ cls := "java/lang/AbstractStringBuilder", name := "ensureCapacityInternal", desc := "(I)V" } : Jvm.MethodName)) ∈ lw_all := lw_g (lw_at lw_m2 178 rfl) rfl
theorem q454 : (Jvm.Cond.privateMethod ({ cls := "java/lang/AbstractStringBuilder", name := "ensureCapacityInternal", desc := "(I)V" } : Jvm.MethodName)) ∈ lw_tbl := lw_at lw_m2 179 rfl
theorem q455 : (Jvm.Cond.instanceMethod ({ cls := "java/lang/AbstractStringBuilder", name := "ensureCapacityInternal", desc := "(I)V" } : Jvm.MethodName)) ∈ lw_all := lw_g (lw_at lw_m2 180 rfl) rfl
theorem q456 : (Jvm.Cond.code ({ cls := "java/lang/AbstractStringBuilder", name := "ensureCapacityInternal", desc := "(I)V" } : Jvm.MethodName) prog_15_method_9_code (3 : Nat) (Option.none : Option Jvm.ClassFile.FieldType)) ∈ lw_all := lw_g (lw_at lw_m2 181 rfl) rfl
theorem q457 : (Jvm.Cond.methodLink "java/lang/AbstractStringBuilder" (104 : Nat) ({ cls := "java/lang/AbstractStringBuilder", name := "newCapacity", desc := "(I)I" } : Jvm.MethodName)) ∈ lw_all := lw_g (lw_at lw_m2 182 rfl) rfl
theorem q458 : (Jvm.Cond.privateMethod ({ cls := "java/lang/AbstractStringBuilder", name := "newCapacity", desc := "(I)I" } : Jvm.MethodName)) ∈ lw_tbl := lw_at lw_m2 183 rfl
theorem q459 : (Jvm.Cond.instanceMethod ({ cls := "java/lang/AbstractStringBuilder", name := "newCapacity", desc := "(I)I" } : Jvm.MethodName)) ∈ lw_all := lw_g (lw_at lw_m2 184 rfl) rfl
theorem q460 : (Jvm.Cond.code ({ cls := "java/lang/AbstractStringBuilder", name := "newCapacity", desc := "(I)I" } : Jvm.MethodName) prog_15_method_10_code (6 : Nat) (Option.some Jvm.ClassFile.FieldType.int)) ∈ lw_all := lw_g (lw_at lw_m2 185 rfl) rfl
theorem q461 : (Jvm.Cond.methodLink "java/lang/AbstractStringBuilder" (114 : Nat) ({ cls := "jdk/internal/util/ArraysSupport", name := "newLength", desc := "(III)I" } : Jvm.MethodName)) ∈ lw_all := lw_g (lw_at lw_m2 186 rfl) rfl
theorem q471 : (Jvm.Cond.constant "java/lang/AbstractStringBuilder" (39 : Nat) (2147483647 : Int32)) ∈ lw_all := lw_g (lw_at lw_m2 196 rfl) rfl
theorem q472 : (Jvm.Cond.methodLink "java/lang/AbstractStringBuilder" (108 : Nat) ({ cls := "java/util/Arrays", name := "copyOf", desc := "([BI)[B" } : Jvm.MethodName)) ∈ lw_all := lw_g (lw_at lw_m2 197 rfl) rfl
theorem q486 : (Jvm.Cond.methodLink "java/lang/AbstractStringBuilder" (83 : Nat) ({ cls := "java/lang/AbstractStringBuilder", name := "isLatin1", desc := "()Z" } : Jvm.MethodName)) ∈ lw_all := lw_g (lw_at lw_m2 211 rfl) rfl
theorem q487 : (Jvm.Cond.instanceMethod ({ cls := "java/lang/AbstractStringBuilder", name := "isLatin1", desc := "()Z" } : Jvm.MethodName)) ∈ lw_all := lw_g (lw_at lw_m2 212 rfl) rfl
theorem q488 : (Jvm.Cond.sameMethod "java/lang/AbstractStringBuilder" "java/lang/AbstractStringBuilder" "isLatin1" "()Z") ∈ lw_all := lw_g (lw_at lw_m2 213 rfl) rfl
theorem q490 : (Jvm.Cond.code ({ cls := "java/lang/AbstractStringBuilder", name := "isLatin1", desc := "()Z" } : Jvm.MethodName) prog_15_method_68_code (1 : Nat) (Option.some Jvm.ClassFile.FieldType.boolean)) ∈ lw_all := lw_g (lw_at lw_m2 215 rfl) rfl
theorem q491 : (Jvm.Cond.methodLink "java/lang/AbstractStringBuilder" (226 : Nat) ({ cls := "java/lang/StringUTF16", name := "putCharsAt", desc := "([BICCCC)I" } : Jvm.MethodName)) ∈ lw_all := lw_g (lw_at lw_m2 216 rfl) rfl
theorem q517 : (Jvm.Cond.methodLink "java/lang/AbstractStringBuilder" (32 : Nat) ({ cls := "java/lang/String", name := "length", desc := "()I" } : Jvm.MethodName)) ∈ lw_all := lw_g (lw_at lw_m3 2 rfl) rfl
theorem q518 : (Jvm.Cond.methodLink "java/lang/AbstractStringBuilder" (208 : Nat) ({ cls := "java/lang/AbstractStringBuilder", name := "putStringAt", desc := "(ILjava/lang/String;)V" } : Jvm.MethodName)) ∈ lw_all := lw_g (lw_at lw_m3 3 rfl) rfl
theorem q519 : (Jvm.Cond.privateMethod ({ cls := "java/lang/AbstractStringBuilder", name := "putStringAt", desc := "(ILjava/lang/String;)V" } : Jvm.MethodName)) ∈ lw_tbl := lw_at lw_m3 4 rfl
theorem q520 : (Jvm.Cond.instanceMethod ({ cls := "java/lang/AbstractStringBuilder", name := "putStringAt", desc := "(ILjava/lang/String;)V" } : Jvm.MethodName)) ∈ lw_all := lw_g (lw_at lw_m3 5 rfl) rfl
theorem q521 : (Jvm.Cond.code ({ cls := "java/lang/AbstractStringBuilder", name := "putStringAt", desc := "(ILjava/lang/String;)V" } : Jvm.MethodName) prog_15_method_73_code (3 : Nat) (Option.none : Option Jvm.ClassFile.FieldType)) ∈ lw_all := lw_g (lw_at lw_m3 6 rfl) rfl
theorem q522 : (Jvm.Cond.methodLink "java/lang/AbstractStringBuilder" (397 : Nat) ({ cls := "java/lang/AbstractStringBuilder", name := "inflateIfNeededFor", desc := "(Ljava/lang/String;)V" } : Jvm.MethodName)) ∈ lw_all := lw_g (lw_at lw_m3 7 rfl) rfl
theorem q523 : (Jvm.Cond.privateMethod ({ cls := "java/lang/AbstractStringBuilder", name := "inflateIfNeededFor", desc := "(Ljava/lang/String;)V" } : Jvm.MethodName)) ∈ lw_tbl := lw_at lw_m3 8 rfl
theorem q524 : (Jvm.Cond.instanceMethod ({ cls := "java/lang/AbstractStringBuilder", name := "inflateIfNeededFor", desc := "(Ljava/lang/String;)V" } : Jvm.MethodName)) ∈ lw_all := lw_g (lw_at lw_m3 9 rfl) rfl
theorem q525 : (Jvm.Cond.code ({ cls := "java/lang/AbstractStringBuilder", name := "inflateIfNeededFor", desc := "(Ljava/lang/String;)V" } : Jvm.MethodName) prog_15_method_71_code (2 : Nat) (Option.none : Option Jvm.ClassFile.FieldType)) ∈ lw_all := lw_g (lw_at lw_m3 10 rfl) rfl
theorem q526 : (Jvm.Cond.methodLink "java/lang/AbstractStringBuilder" (40 : Nat) ({ cls := "java/lang/String", name := "coder", desc := "()B" } : Jvm.MethodName)) ∈ lw_all := lw_g (lw_at lw_m3 11 rfl) rfl
theorem q527 : (Jvm.Cond.methodLink "java/lang/AbstractStringBuilder" (195 : Nat) ({ cls := "java/lang/AbstractStringBuilder", name := "inflate", desc := "()V" } : Jvm.MethodName)) ∈ lw_all := lw_g (lw_at lw_m3 12 rfl) rfl
theorem q528 : (Jvm.Cond.privateMethod ({ cls := "java/lang/AbstractStringBuilder", name := "inflate", desc := "()V" } : Jvm.MethodName)) ∈ lw_tbl := lw_at lw_m3 13 rfl
theorem q529 : (Jvm.Cond.instanceMethod ({ cls := "java/lang/AbstractStringBuilder", name := "inflate", desc := "()V" } : Jvm.MethodName)) ∈ lw_all := lw_g (lw_at lw_m3 14 rfl) rfl
theorem q530 : (Jvm.Cond.code ({ cls := "java/lang/AbstractStringBuilder", name := "inflate", desc := "()V" } : Jvm.MethodName) prog_15_method_11_code (2 : Nat) (Option.none : Option Jvm.ClassFile.FieldType)) ∈ lw_all := lw_g (lw_at lw_m3 15 rfl) rfl
theorem q531 : (Jvm.Cond.methodLink "java/lang/AbstractStringBuilder" (125 : Nat) ({ cls := "java/lang/StringLatin1", name := "inflate", desc := "([BI[BII)V" } : Jvm.MethodName)) ∈ lw_all := lw_g (lw_at lw_m3 16 rfl) rfl
theorem q546 : (Jvm.Cond.methodLink "java/lang/AbstractStringBuilder" (399 : Nat) ({ cls := "java/lang/String", name := "getBytes", desc := "([BIB)V" } : Jvm.MethodName)) ∈ lw_all := lw_g (lw_at lw_m3 31 rfl) rfl
theorem q557 : (Jvm.Cond.instanceMethod ({ cls := "java/lang/AbstractStringBuilder", name := "append", desc := "(C)Ljava/lang/AbstractStringBuilder;" } : Jvm.MethodName)) ∈ lw_all := lw_g (lw_at lw_m3 42 rfl) rfl
theorem q558 : (Jvm.Cond.code ({ cls := "java/lang/AbstractStringBuilder", name := "append", desc := "(C)Ljava/lang/AbstractStringBuilder;" } : Jvm.MethodName) prog_15_method_31_code (2 : Nat) (Option.some (Jvm.ClassFile.FieldType.object "java/lang/AbstractStringBuilder"))) ∈ lw_all := lw_g (lw_at lw_m3 43 rfl) rfl
theorem q559 : (Jvm.Cond.methodLink "java/lang/AbstractStringBuilder" (191 : Nat) ({ cls := "java/lang/StringLatin1", name := "canEncode", desc := "(C)Z" } : Jvm.MethodName)) ∈ lw_all := lw_g (lw_at lw_m3 44 rfl) rfl
theorem q562 : (Jvm.Cond.methodLink "java/lang/AbstractStringBuilder" (197 : Nat) ({ cls := "java/lang/StringUTF16", name := "putCharSB", desc := "([BII)V" } : Jvm.MethodName)) ∈ lw_all := lw_g (lw_at lw_m3 47 rfl) rfl
theorem q586 : (Jvm.Cond.instanceMethod ({ cls := "java/lang/AbstractStringBuilder", name := "getValue", desc := "()[B" } : Jvm.MethodName)) ∈ lw_all := lw_g (lw_at lw_m3 71 rfl) rfl
theorem q587 : (Jvm.Cond.sameMethod "java/lang/AbstractStringBuilder" "java/lang/AbstractStringBuilder" "getValue" "()[B") ∈ lw_all := lw_g (lw_at lw_m3 72 rfl) rfl
theorem q589 : (Jvm.Cond.code ({ cls := "java/lang/AbstractStringBuilder", name := "getValue", desc := "()[B" } : Jvm.MethodName) prog_15_method_64_code (1 : Nat) (Option.some (Jvm.ClassFile.FieldType.array Jvm.ClassFile.FieldType.byte))) ∈ lw_all := lw_g (lw_at lw_m3 74 rfl) rfl
theorem q591 : (Jvm.Cond.instanceMethod ({ cls := "java/lang/AbstractStringBuilder", name := "length", desc := "()I" } : Jvm.MethodName)) ∈ lw_all := lw_g (lw_at lw_m3 76 rfl) rfl
theorem q592 : (Jvm.Cond.sameMethod "java/lang/AbstractStringBuilder" "java/lang/AbstractStringBuilder" "length" "()I") ∈ lw_all := lw_g (lw_at lw_m3 77 rfl) rfl
theorem q597 : (Jvm.Cond.code ({ cls := "java/lang/AbstractStringBuilder", name := "length", desc := "()I" } : Jvm.MethodName) prog_15_method_6_code (1 : Nat) (Option.some Jvm.ClassFile.FieldType.int)) ∈ lw_all := lw_g (lw_at lw_m3 82 rfl) rfl
theorem q616 : (Jvm.Cond.instanceMethod ({ cls := "java/lang/AbstractStringBuilder", name := "append", desc := "(I)Ljava/lang/AbstractStringBuilder;" } : Jvm.MethodName)) ∈ lw_all := lw_g (lw_at lw_m3 101 rfl) rfl
theorem q617 : (Jvm.Cond.code ({ cls := "java/lang/AbstractStringBuilder", name := "append", desc := "(I)Ljava/lang/AbstractStringBuilder;" } : Jvm.MethodName) prog_15_method_32_code (4 : Nat) (Option.some (Jvm.ClassFile.FieldType.object "java/lang/AbstractStringBuilder"))) ∈ lw_all := lw_g (lw_at lw_m3 102 rfl) rfl
theorem q618 : (Jvm.Cond.methodLink "java/lang/AbstractStringBuilder" (245 : Nat) ({ cls := "java/lang/Integer", name := "stringSize", desc := "(I)I" } : Jvm.MethodName)) ∈ lw_all := lw_g (lw_at lw_m3 103 rfl) rfl
theorem q621 : (Jvm.Cond.methodLink "java/lang/AbstractStringBuilder" (248 : Nat) ({ cls := "java/lang/Integer", name := "getChars", desc := "(II[B)I" } : Jvm.MethodName)) ∈ lw_all := lw_g (lw_at lw_m3 106 rfl) rfl
theorem q628 : (Jvm.Cond.methodLink "java/lang/AbstractStringBuilder" (251 : Nat) ({ cls := "java/lang/StringUTF16", name := "getChars", desc := "(III[B)I" } : Jvm.MethodName)) ∈ lw_all := lw_g (lw_at lw_m3 113 rfl) rfl
theorem q1042 : (Jvm.Cond.instanceMethod ({ cls := "java/lang/AbstractStringBuilder", name := "compareTo", desc := "(Ljava/lang/AbstractStringBuilder;)I" } : Jvm.MethodName)) ∈ lw_all := lw_g (lw_at lw_m5 47 rfl) rfl
theorem q1043 : (Jvm.Cond.code ({ cls := "java/lang/AbstractStringBuilder", name := "compareTo", desc := "(Ljava/lang/AbstractStringBuilder;)I" } : Jvm.MethodName) prog_15_method_5_code (6 : Nat) (Option.some Jvm.ClassFile.FieldType.int)) ∈ lw_all := lw_g (lw_at lw_m5 48 rfl) rfl
theorem q1044 : (Jvm.Cond.methodLink "java/lang/AbstractStringBuilder" (87 : Nat) ({ cls := "java/lang/StringLatin1", name := "compareTo", desc := "([B[BII)I" } : Jvm.MethodName)) ∈ lw_all := lw_g (lw_at lw_m5 49 rfl) rfl
theorem q1045 : (Jvm.Cond.methodLink "java/lang/AbstractStringBuilder" (93 : Nat) ({ cls := "java/lang/StringUTF16", name := "compareTo", desc := "([B[BII)I" } : Jvm.MethodName)) ∈ lw_all := lw_g (lw_at lw_m5 50 rfl) rfl
theorem q1054 : (Jvm.Cond.methodLink "java/lang/AbstractStringBuilder" (94 : Nat) ({ cls := "java/lang/StringLatin1", name := "compareToUTF16", desc := "([B[BII)I" } : Jvm.MethodName)) ∈ lw_all := lw_g (lw_at lw_m5 59 rfl) rfl
theorem q1058 : (Jvm.Cond.methodLink "java/lang/AbstractStringBuilder" (97 : Nat) ({ cls := "java/lang/StringUTF16", name := "compareToLatin1", desc := "([B[BII)I" } : Jvm.MethodName)) ∈ lw_all := lw_g (lw_at lw_m5 63 rfl) rfl
theorem q1167 : (Jvm.Cond.instanceMethod ({ cls := "java/lang/AbstractStringBuilder", name := "insert", desc := "(IC)Ljava/lang/AbstractStringBuilder;" } : Jvm.MethodName)) ∈ lw_all := lw_g (lw_at lw_m5 172 rfl) rfl
theorem q1168 : (Jvm.Cond.code ({ cls := "java/lang/AbstractStringBuilder", name := "insert", desc := "(IC)Ljava/lang/AbstractStringBuilder;" } : Jvm.MethodName) prog_15_method_51_code (3 : Nat) (Option.some (Jvm.ClassFile.FieldType.object "java/lang/AbstractStringBuilder"))) ∈ lw_all := lw_g (lw_at lw_m5 173 rfl) rfl
theorem q1169 : (Jvm.Cond.methodLink "java/lang/AbstractStringBuilder" (315 : Nat) ({ cls := "java/lang/String", name := "checkOffset", desc := "(II)V" } : Jvm.MethodName)) ∈ lw_all := lw_g (lw_at lw_m5 174 rfl) rfl
theorem q1170 : (Jvm.Cond.methodLink "java/lang/AbstractStringBuilder" (283 : Nat) ({ cls := "java/lang/AbstractStringBuilder", name := "shift", desc := "(II)V" } : Jvm.MethodName)) ∈ lw_all := lw_g (lw_at lw_m5 175 rfl) rfl
theorem q1171 : (Jvm.Cond.privateMethod ({ cls := "java/lang/AbstractStringBuilder", name := "shift", desc := "(II)V" } : Jvm.MethodName)) ∈ lw_tbl := lw_at lw_m5 176 rfl
theorem q1172 : (Jvm.Cond.instanceMethod ({ cls := "java/lang/AbstractStringBuilder", name := "shift", desc := "(II)V" } : Jvm.MethodName)) ∈ lw_all := lw_g (lw_at lw_m5 177 rfl) rfl
theorem q1173 : (Jvm.Cond.code ({ cls := "java/lang/AbstractStringBuilder", name := "shift", desc := "(II)V" } : Jvm.MethodName) prog_15_method_43_code (3 : Nat) (Option.none : Option Jvm.ClassFile.FieldType)) ∈ lw_all := lw_g (lw_at lw_m5 178 rfl) rfl
theorem q1174 : (Jvm.Cond.methodLink "java/lang/AbstractStringBuilder" (309 : Nat) ({ cls := "java/lang/System", name := "arraycopy", desc := "(Ljava/lang/Object;ILjava/lang/Object;II)V" } : Jvm.MethodName)) ∈ lw_all := lw_g (lw_at lw_m5 179 rfl) rfl
theorem q1770 : (Jvm.Cond.sameMethod "java/lang/AbstractStringBuilder" "java/lang/AbstractStringBuilder" "append" "(Ljava/lang/String;)Ljava/lang/AbstractStringBuilder;") ∈ lw_all := lw_g (lw_at lw_m8 55 rfl) rfl
theorem q1771 : (Jvm.Cond.sameMethod "java/lang/AbstractStringBuilder" "java/lang/AbstractStringBuilder" "appendNull" "()Ljava/lang/AbstractStringBuilder;") ∈ lw_all := lw_g (lw_at lw_m8 56 rfl) rfl
theorem q1772 : (Jvm.Cond.sameMethod "java/lang/AbstractStringBuilder" "java/lang/AbstractStringBuilder" "ensureCapacityInternal" "(I)V") ∈ lw_all := lw_g (lw_at lw_m8 57 rfl) rfl
theorem q1773 : (Jvm.Cond.sameMethod "java/lang/AbstractStringBuilder" "java/lang/AbstractStringBuilder" "newCapacity" "(I)I") ∈ lw_all := lw_g (lw_at lw_m8 58 rfl) rfl
theorem q1774 : (Jvm.Cond.sameMethod "java/lang/AbstractStringBuilder" "java/lang/AbstractStringBuilder" "putStringAt" "(ILjava/lang/String;)V") ∈ lw_all := lw_g (lw_at lw_m8 59 rfl) rfl
theorem q1775 : (Jvm.Cond.sameMethod "java/lang/AbstractStringBuilder" "java/lang/AbstractStringBuilder" "inflateIfNeededFor" "(Ljava/lang/String;)V") ∈ lw_all := lw_g (lw_at lw_m8 60 rfl) rfl
theorem q1776 : (Jvm.Cond.sameMethod "java/lang/AbstractStringBuilder" "java/lang/AbstractStringBuilder" "inflate" "()V") ∈ lw_all := lw_g (lw_at lw_m8 61 rfl) rfl
theorem q1777 : (Jvm.Cond.sameMethod "java/lang/AbstractStringBuilder" "java/lang/AbstractStringBuilder" "append" "(C)Ljava/lang/AbstractStringBuilder;") ∈ lw_all := lw_g (lw_at lw_m8 62 rfl) rfl
theorem q1778 : (Jvm.Cond.sameMethod "java/lang/AbstractStringBuilder" "java/lang/AbstractStringBuilder" "append" "(I)Ljava/lang/AbstractStringBuilder;") ∈ lw_all := lw_g (lw_at lw_m8 63 rfl) rfl
theorem q1779 : (Jvm.Cond.sameMethod "java/lang/AbstractStringBuilder" "java/lang/AbstractStringBuilder" "compareTo" "(Ljava/lang/AbstractStringBuilder;)I") ∈ lw_all := lw_g (lw_at lw_m8 64 rfl) rfl
theorem q1780 : (Jvm.Cond.sameMethod "java/lang/AbstractStringBuilder" "java/lang/AbstractStringBuilder" "insert" "(IC)Ljava/lang/AbstractStringBuilder;") ∈ lw_all := lw_g (lw_at lw_m8 65 rfl) rfl
theorem q1781 : (Jvm.Cond.sameMethod "java/lang/AbstractStringBuilder" "java/lang/AbstractStringBuilder" "shift" "(II)V") ∈ lw_all := lw_g (lw_at lw_m8 66 rfl) rfl

/-! java/lang/StringBuilder -/
set_option maxRecDepth 100000
def RJ12 : String := "java/lang/StringBuilder"
def TJ12 : u_T := fun k => match k with
  | 0 => ("java/lang/AbstractStringBuilder", "value", "[B", false)
  | 1 => ("java/lang/AbstractStringBuilder", "coder", "B", false)
  | 2 => ("java/lang/AbstractStringBuilder", "maybeLatin1", "Z", false)
  | _ => ("java/lang/AbstractStringBuilder", "count", "I", false)
def tyJ12 : Nat → FieldType := fun k => match k with
  | 0 => .array .byte
  | 1 => .byte
  | 2 => .boolean
  | _ => .int
abbrev wsJ120 : List Cond := u_ws RJ12 TJ12 4
theorem nmJ12 : ∀ a, a < 4 → ∀ b, b < 4 → a ≠ b → (TJ12 a).2.1 ≠ (TJ12 b).2.1 := by decide +kernel
theorem tyJ12_ok : ∀ k, k < 4 → parseFieldDescriptor (TJ12 k).2.2.1 = some (tyJ12 k) := by decide +kernel
abbrev cJ12_init : ByteArray := prog_33_method_1_code
def yJ12_init : MethodName := ⟨RJ12, "<init>", "()V"⟩
def dkwJ12_init_0 : List UInt8 := [42, 16, 16, 183, 0, 1, 177]
abbrev dktJ12_init_0 : List UInt8 := dkwJ12_init_0 ++ []
theorem dksJ12_init_0 : cJ12_init.data.toList.drop 0 = dktJ12_init_0 := by decide +kernel
theorem dJ12_init_0 : decode cJ12_init 0 = .ok (.aload_n 0, 1) := dk_42 (dk_at dksJ12_init_0 0 rfl rfl)
theorem dJ12_init_1 : decode cJ12_init 1 = .ok (.bipush 16, 2) := dk_16 16 (dk_at dksJ12_init_0 1 rfl rfl)
theorem dJ12_init_3 : decode cJ12_init 3 = .ok (.invokespecial 1, 3) := dk_183 0 1 (dk_at dksJ12_init_0 3 rfl rfl)
theorem dJ12_init_6 : decode cJ12_init 6 = .ok (.return_, 1) := dk_177 (dk_at dksJ12_init_0 6 rfl rfl)
abbrev cJ12_append : ByteArray := prog_33_method_7_code
def yJ12_append : MethodName := ⟨RJ12, "append", "(Ljava/lang/String;)Ljava/lang/StringBuilder;"⟩
def dkwJ12_append_0 : List UInt8 := [42, 43, 183, 0, 29, 87, 42, 176]
abbrev dktJ12_append_0 : List UInt8 := dkwJ12_append_0 ++ []
theorem dksJ12_append_0 : cJ12_append.data.toList.drop 0 = dktJ12_append_0 := by decide +kernel
theorem dJ12_append_0 : decode cJ12_append 0 = .ok (.aload_n 0, 1) := dk_42 (dk_at dksJ12_append_0 0 rfl rfl)
theorem dJ12_append_1 : decode cJ12_append 1 = .ok (.aload_n 1, 1) := dk_43 (dk_at dksJ12_append_0 1 rfl rfl)
theorem dJ12_append_2 : decode cJ12_append 2 = .ok (.invokespecial 29, 3) := dk_183 0 29 (dk_at dksJ12_append_0 2 rfl rfl)
theorem dJ12_append_5 : decode cJ12_append 5 = .ok (.pop, 1) := dk_87 (dk_at dksJ12_append_0 5 rfl rfl)
theorem dJ12_append_6 : decode cJ12_append 6 = .ok (.aload_n 0, 1) := dk_42 (dk_at dksJ12_append_0 6 rfl rfl)
theorem dJ12_append_7 : decode cJ12_append 7 = .ok (.areturn, 1) := dk_176 (dk_at dksJ12_append_0 7 rfl rfl)
abbrev cJ12_append_2 : ByteArray := prog_33_method_14_code
def yJ12_append_2 : MethodName := ⟨RJ12, "append", "(C)Ljava/lang/StringBuilder;"⟩
def dkwJ12_append_2_0 : List UInt8 := [42, 27, 183, 0, 50, 87, 42, 176]
abbrev dktJ12_append_2_0 : List UInt8 := dkwJ12_append_2_0 ++ []
theorem dksJ12_append_2_0 : cJ12_append_2.data.toList.drop 0 = dktJ12_append_2_0 := by decide +kernel
theorem dJ12_append_2_0 : decode cJ12_append_2 0 = .ok (.aload_n 0, 1) := dk_42 (dk_at dksJ12_append_2_0 0 rfl rfl)
theorem dJ12_append_2_1 : decode cJ12_append_2 1 = .ok (.iload_n 1, 1) := dk_27 (dk_at dksJ12_append_2_0 1 rfl rfl)
theorem dJ12_append_2_2 : decode cJ12_append_2 2 = .ok (.invokespecial 50, 3) := dk_183 0 50 (dk_at dksJ12_append_2_0 2 rfl rfl)
theorem dJ12_append_2_5 : decode cJ12_append_2 5 = .ok (.pop, 1) := dk_87 (dk_at dksJ12_append_2_0 5 rfl rfl)
theorem dJ12_append_2_6 : decode cJ12_append_2 6 = .ok (.aload_n 0, 1) := dk_42 (dk_at dksJ12_append_2_0 6 rfl rfl)
theorem dJ12_append_2_7 : decode cJ12_append_2 7 = .ok (.areturn, 1) := dk_176 (dk_at dksJ12_append_2_0 7 rfl rfl)
abbrev cJ12_toString : ByteArray := prog_33_method_42_code
def yJ12_toString : MethodName := ⟨RJ12, "toString", "()Ljava/lang/String;"⟩
def dkwJ12_toString_0 : List UInt8 := [187, 0, 18, 89, 42, 183, 0, 137, 176]
abbrev dktJ12_toString_0 : List UInt8 := dkwJ12_toString_0 ++ []
theorem dksJ12_toString_0 : cJ12_toString.data.toList.drop 0 = dktJ12_toString_0 := by decide +kernel
theorem dJ12_toString_0 : decode cJ12_toString 0 = .ok (.new 18, 3) := dk_187 0 18 (dk_at dksJ12_toString_0 0 rfl rfl)
theorem dJ12_toString_3 : decode cJ12_toString 3 = .ok (.dup, 1) := dk_89 (dk_at dksJ12_toString_0 3 rfl rfl)
theorem dJ12_toString_4 : decode cJ12_toString 4 = .ok (.aload_n 0, 1) := dk_42 (dk_at dksJ12_toString_0 4 rfl rfl)
theorem dJ12_toString_5 : decode cJ12_toString 5 = .ok (.invokespecial 137, 3) := dk_183 0 137 (dk_at dksJ12_toString_0 5 rfl rfl)
theorem dJ12_toString_8 : decode cJ12_toString 8 = .ok (.areturn, 1) := dk_176 (dk_at dksJ12_toString_0 8 rfl rfl)
abbrev cJ12_length : ByteArray := prog_33_method_93_code
def yJ12_length : MethodName := ⟨RJ12, "length", "()I"⟩
theorem dJ12_length_0 : decode cJ12_length 0 = .ok (.aload_n 0, 1) := by decide +kernel
theorem dJ12_length_1 : decode cJ12_length 1 = .ok (.invokespecial 343, 3) := by decide +kernel
theorem dJ12_length_4 : decode cJ12_length 4 = .ok (.ireturn, 1) := by decide +kernel
abbrev cJ12_append_3 : ByteArray := prog_33_method_15_code
def yJ12_append_3 : MethodName := ⟨RJ12, "append", "(I)Ljava/lang/StringBuilder;"⟩
def dkwJ12_append_3_0 : List UInt8 := [42, 27, 183, 0, 53, 87, 42, 176]
abbrev dktJ12_append_3_0 : List UInt8 := dkwJ12_append_3_0 ++ []
theorem dksJ12_append_3_0 : cJ12_append_3.data.toList.drop 0 = dktJ12_append_3_0 := by decide +kernel
theorem dJ12_append_3_0 : decode cJ12_append_3 0 = .ok (.aload_n 0, 1) := dk_42 (dk_at dksJ12_append_3_0 0 rfl rfl)
theorem dJ12_append_3_1 : decode cJ12_append_3 1 = .ok (.iload_n 1, 1) := dk_27 (dk_at dksJ12_append_3_0 1 rfl rfl)
theorem dJ12_append_3_2 : decode cJ12_append_3 2 = .ok (.invokespecial 53, 3) := dk_183 0 53 (dk_at dksJ12_append_3_0 2 rfl rfl)
theorem dJ12_append_3_5 : decode cJ12_append_3 5 = .ok (.pop, 1) := dk_87 (dk_at dksJ12_append_3_0 5 rfl rfl)
theorem dJ12_append_3_6 : decode cJ12_append_3 6 = .ok (.aload_n 0, 1) := dk_42 (dk_at dksJ12_append_3_0 6 rfl rfl)
theorem dJ12_append_3_7 : decode cJ12_append_3 7 = .ok (.areturn, 1) := dk_176 (dk_at dksJ12_append_3_0 7 rfl rfl)
abbrev cJ12_insert : ByteArray := prog_33_method_30_code
def yJ12_insert : MethodName := ⟨RJ12, "insert", "(IC)Ljava/lang/StringBuilder;"⟩
def dkwJ12_insert_0 : List UInt8 := [42, 27, 28, 183, 0, 101, 87, 42, 176]
abbrev dktJ12_insert_0 : List UInt8 := dkwJ12_insert_0 ++ []
theorem dksJ12_insert_0 : cJ12_insert.data.toList.drop 0 = dktJ12_insert_0 := by decide +kernel
theorem dJ12_insert_0 : decode cJ12_insert 0 = .ok (.aload_n 0, 1) := dk_42 (dk_at dksJ12_insert_0 0 rfl rfl)
theorem dJ12_insert_1 : decode cJ12_insert 1 = .ok (.iload_n 1, 1) := dk_27 (dk_at dksJ12_insert_0 1 rfl rfl)
theorem dJ12_insert_2 : decode cJ12_insert 2 = .ok (.iload_n 2, 1) := dk_28 (dk_at dksJ12_insert_0 2 rfl rfl)
theorem dJ12_insert_3 : decode cJ12_insert 3 = .ok (.invokespecial 101, 3) := dk_183 0 101 (dk_at dksJ12_insert_0 3 rfl rfl)
theorem dJ12_insert_6 : decode cJ12_insert 6 = .ok (.pop, 1) := dk_87 (dk_at dksJ12_insert_0 6 rfl rfl)
theorem dJ12_insert_7 : decode cJ12_insert 7 = .ok (.aload_n 0, 1) := dk_42 (dk_at dksJ12_insert_0 7 rfl rfl)
theorem dJ12_insert_8 : decode cJ12_insert 8 = .ok (.areturn, 1) := dk_176 (dk_at dksJ12_insert_0 8 rfl rfl)
theorem q54 : (Jvm.Cond.initialized "java/lang/StringBuilder") ∈ lw_all := lw_g (lw_at lw_m1 19 rfl) rfl
theorem q413 : (Jvm.Cond.instantiable "java/lang/StringBuilder" (4 : Nat)) ∈ lw_all := lw_g (lw_at lw_m2 138 rfl) rfl
theorem q415 : (Jvm.Cond.instanceMethod ({ cls := "java/lang/StringBuilder", name := "<init>", desc := "()V" } : Jvm.MethodName)) ∈ lw_all := lw_g (lw_at lw_m2 140 rfl) rfl
theorem q416 : (Jvm.Cond.code ({ cls := "java/lang/StringBuilder", name := "<init>", desc := "()V" } : Jvm.MethodName) prog_33_method_1_code (1 : Nat) (Option.none : Option Jvm.ClassFile.FieldType)) ∈ lw_all := lw_g (lw_at lw_m2 141 rfl) rfl
theorem q417 : (Jvm.Cond.methodLink "java/lang/StringBuilder" (1 : Nat) ({ cls := "java/lang/AbstractStringBuilder", name := "<init>", desc := "(I)V" } : Jvm.MethodName)) ∈ lw_all := lw_g (lw_at lw_m2 142 rfl) rfl
theorem q433 : (Jvm.Cond.lays "java/lang/StringBuilder" "java/lang/AbstractStringBuilder" "value" "[B") ∈ lw_all := lw_g (lw_at lw_m2 158 rfl) rfl
theorem q435 : (Jvm.Cond.lays "java/lang/StringBuilder" "java/lang/AbstractStringBuilder" "coder" "B") ∈ lw_all := lw_g (lw_at lw_m2 160 rfl) rfl
theorem q437 : (Jvm.Cond.lays "java/lang/StringBuilder" "java/lang/AbstractStringBuilder" "maybeLatin1" "Z") ∈ lw_all := lw_g (lw_at lw_m2 162 rfl) rfl
theorem q439 : (Jvm.Cond.lays "java/lang/StringBuilder" "java/lang/AbstractStringBuilder" "count" "I") ∈ lw_all := lw_g (lw_at lw_m2 164 rfl) rfl
theorem q441 : (Jvm.Cond.superclass "java/lang/StringBuilder" "java/lang/AbstractStringBuilder") ∈ lw_all := lw_g (lw_at lw_m2 166 rfl) rfl
theorem q443 : (Jvm.Cond.instanceMethod ({ cls := "java/lang/StringBuilder", name := "append", desc := "(Ljava/lang/String;)Ljava/lang/StringBuilder;" } : Jvm.MethodName)) ∈ lw_all := lw_g (lw_at lw_m2 168 rfl) rfl
theorem q444 : (Jvm.Cond.selects "java/lang/StringBuilder" ({ cls := "java/lang/StringBuilder", name := "append", desc := "(Ljava/lang/String;)Ljava/lang/StringBuilder;" } : Jvm.MethodName) ({ cls := "java/lang/StringBuilder", name := "append", desc := "(Ljava/lang/String;)Ljava/lang/StringBuilder;" } : Jvm.MethodName)) ∈ lw_all := lw_g (lw_at lw_m2 169 rfl) rfl
theorem q445 : (Jvm.Cond.code ({ cls := "java/lang/StringBuilder", name := "append", desc := "(Ljava/lang/String;)Ljava/lang/StringBuilder;" } : Jvm.MethodName) prog_33_method_7_code (2 : Nat) (Option.some (Jvm.ClassFile.FieldType.object "java/lang/StringBuilder"))) ∈ lw_all := lw_g (lw_at lw_m2 170 rfl) rfl
theorem q446 : (Jvm.Cond.methodLink "java/lang/StringBuilder" (29 : Nat) ({ cls := "java/lang/AbstractStringBuilder", name := "append", desc := "(Ljava/lang/String;)Ljava/lang/AbstractStringBuilder;" } : Jvm.MethodName)) ∈ lw_all := lw_g (lw_at lw_m2 171 rfl) rfl
theorem q489 : (Jvm.Cond.selects "java/lang/StringBuilder" ({ cls := "java/lang/AbstractStringBuilder", name := "isLatin1", desc := "()Z" } : Jvm.MethodName) ({ cls := "java/lang/AbstractStringBuilder", name := "isLatin1", desc := "()Z" } : Jvm.MethodName)) ∈ lw_all := lw_g (lw_at lw_m2 214 rfl) rfl
theorem q553 : (Jvm.Cond.instanceMethod ({ cls := "java/lang/StringBuilder", name := "append", desc := "(C)Ljava/lang/StringBuilder;" } : Jvm.MethodName)) ∈ lw_all := lw_g (lw_at lw_m3 38 rfl) rfl
theorem q554 : (Jvm.Cond.selects "java/lang/StringBuilder" ({ cls := "java/lang/StringBuilder", name := "append", desc := "(C)Ljava/lang/StringBuilder;" } : Jvm.MethodName) ({ cls := "java/lang/StringBuilder", name := "append", desc := "(C)Ljava/lang/StringBuilder;" } : Jvm.MethodName)) ∈ lw_all := lw_g (lw_at lw_m3 39 rfl) rfl
theorem q555 : (Jvm.Cond.code ({ cls := "java/lang/StringBuilder", name := "append", desc := "(C)Ljava/lang/StringBuilder;" } : Jvm.MethodName) prog_33_method_14_code (2 : Nat) (Option.some (Jvm.ClassFile.FieldType.object "java/lang/StringBuilder"))) ∈ lw_all := lw_g (lw_at lw_m3 40 rfl) rfl
theorem q556 : (Jvm.Cond.methodLink "java/lang/StringBuilder" (50 : Nat) ({ cls := "java/lang/AbstractStringBuilder", name := "append", desc := "(C)Ljava/lang/AbstractStringBuilder;" } : Jvm.MethodName)) ∈ lw_all := lw_g (lw_at lw_m3 41 rfl) rfl
theorem q573 : (Jvm.Cond.instanceMethod ({ cls := "java/lang/StringBuilder", name := "toString", desc := "()Ljava/lang/String;" } : Jvm.MethodName)) ∈ lw_all := lw_g (lw_at lw_m3 58 rfl) rfl
theorem q574 : (Jvm.Cond.selects "java/lang/StringBuilder" ({ cls := "java/lang/StringBuilder", name := "toString", desc := "()Ljava/lang/String;" } : Jvm.MethodName) ({ cls := "java/lang/StringBuilder", name := "toString", desc := "()Ljava/lang/String;" } : Jvm.MethodName)) ∈ lw_all := lw_g (lw_at lw_m3 59 rfl) rfl
theorem q575 : (Jvm.Cond.code ({ cls := "java/lang/StringBuilder", name := "toString", desc := "()Ljava/lang/String;" } : Jvm.MethodName) prog_33_method_42_code (1 : Nat) (Option.some (Jvm.ClassFile.FieldType.object "java/lang/String"))) ∈ lw_all := lw_g (lw_at lw_m3 60 rfl) rfl
theorem q576 : (Jvm.Cond.classLink "java/lang/StringBuilder" (18 : Nat) "java/lang/String") ∈ lw_all := lw_g (lw_at lw_m3 61 rfl) rfl
theorem q578 : (Jvm.Cond.methodLink "java/lang/StringBuilder" (137 : Nat) ({ cls := "java/lang/String", name := "<init>", desc := "(Ljava/lang/StringBuilder;)V" } : Jvm.MethodName)) ∈ lw_all := lw_g (lw_at lw_m3 63 rfl) rfl
theorem q588 : (Jvm.Cond.selects "java/lang/StringBuilder" ({ cls := "java/lang/AbstractStringBuilder", name := "getValue", desc := "()[B" } : Jvm.MethodName) ({ cls := "java/lang/AbstractStringBuilder", name := "getValue", desc := "()[B" } : Jvm.MethodName)) ∈ lw_all := lw_g (lw_at lw_m3 73 rfl) rfl
theorem q593 : (Jvm.Cond.selects "java/lang/StringBuilder" ({ cls := "java/lang/AbstractStringBuilder", name := "length", desc := "()I" } : Jvm.MethodName) ({ cls := "java/lang/StringBuilder", name := "length", desc := "()I" } : Jvm.MethodName)) ∈ lw_all := lw_g (lw_at lw_m3 78 rfl) rfl
theorem q594 : (Jvm.Cond.instanceMethod ({ cls := "java/lang/StringBuilder", name := "length", desc := "()I" } : Jvm.MethodName)) ∈ lw_all := lw_g (lw_at lw_m3 79 rfl) rfl
theorem q595 : (Jvm.Cond.code ({ cls := "java/lang/StringBuilder", name := "length", desc := "()I" } : Jvm.MethodName) prog_33_method_93_code (1 : Nat) (Option.some Jvm.ClassFile.FieldType.int)) ∈ lw_all := lw_g (lw_at lw_m3 80 rfl) rfl
theorem q596 : (Jvm.Cond.methodLink "java/lang/StringBuilder" (343 : Nat) ({ cls := "java/lang/AbstractStringBuilder", name := "length", desc := "()I" } : Jvm.MethodName)) ∈ lw_all := lw_g (lw_at lw_m3 81 rfl) rfl
theorem q612 : (Jvm.Cond.instanceMethod ({ cls := "java/lang/StringBuilder", name := "append", desc := "(I)Ljava/lang/StringBuilder;" } : Jvm.MethodName)) ∈ lw_all := lw_g (lw_at lw_m3 97 rfl) rfl
theorem q613 : (Jvm.Cond.selects "java/lang/StringBuilder" ({ cls := "java/lang/StringBuilder", name := "append", desc := "(I)Ljava/lang/StringBuilder;" } : Jvm.MethodName) ({ cls := "java/lang/StringBuilder", name := "append", desc := "(I)Ljava/lang/StringBuilder;" } : Jvm.MethodName)) ∈ lw_all := lw_g (lw_at lw_m3 98 rfl) rfl
theorem q614 : (Jvm.Cond.code ({ cls := "java/lang/StringBuilder", name := "append", desc := "(I)Ljava/lang/StringBuilder;" } : Jvm.MethodName) prog_33_method_15_code (2 : Nat) (Option.some (Jvm.ClassFile.FieldType.object "java/lang/StringBuilder"))) ∈ lw_all := lw_g (lw_at lw_m3 99 rfl) rfl
theorem q615 : (Jvm.Cond.methodLink "java/lang/StringBuilder" (53 : Nat) ({ cls := "java/lang/AbstractStringBuilder", name := "append", desc := "(I)Ljava/lang/AbstractStringBuilder;" } : Jvm.MethodName)) ∈ lw_all := lw_g (lw_at lw_m3 100 rfl) rfl
theorem q782 : (Jvm.Cond.selects "java/lang/StringBuilder" ({ cls := "java/lang/Object", name := "getClass", desc := "()Ljava/lang/Class;" } : Jvm.MethodName) ({ cls := "java/lang/Object", name := "getClass", desc := "()Ljava/lang/Class;" } : Jvm.MethodName)) ∈ lw_all := lw_g (lw_at lw_m4 27 rfl) rfl
theorem q1030 : (Jvm.Cond.castable "java/lang/StringBuilder" "java/lang/Comparable") ∈ lw_tbl := lw_at lw_m5 35 rfl
theorem q1031 : (Jvm.Cond.selects "java/lang/StringBuilder" ({ cls := "java/lang/Comparable", name := "compareTo", desc := "(Ljava/lang/Object;)I" } : Jvm.MethodName) ({ cls := "java/lang/StringBuilder", name := "compareTo", desc := "(Ljava/lang/Object;)I" } : Jvm.MethodName)) ∈ lw_all := lw_g (lw_at lw_m5 36 rfl) rfl
theorem q1032 : (Jvm.Cond.unhidden "java/lang/StringBuilder" "compareTo" "(Ljava/lang/Object;)I") ∈ lw_tbl := lw_at lw_m5 37 rfl
theorem q1033 : (Jvm.Cond.instanceMethod ({ cls := "java/lang/StringBuilder", name := "compareTo", desc := "(Ljava/lang/Object;)I" } : Jvm.MethodName)) ∈ lw_all := lw_g (lw_at lw_m5 38 rfl) rfl
theorem q1034 : (Jvm.Cond.publicMethod ({ cls := "java/lang/StringBuilder", name := "compareTo", desc := "(Ljava/lang/Object;)I" } : Jvm.MethodName)) ∈ lw_tbl := lw_at lw_m5 39 rfl
theorem q1035 : (Jvm.Cond.code ({ cls := "java/lang/StringBuilder", name := "compareTo", desc := "(Ljava/lang/Object;)I" } : Jvm.MethodName) prog_33_method_97_code (2 : Nat) (Option.some Jvm.ClassFile.FieldType.int)) ∈ lw_all := lw_g (lw_at lw_m5 40 rfl) rfl
theorem q1036 : (Jvm.Cond.classLink "java/lang/StringBuilder" (24 : Nat) "java/lang/StringBuilder") ∈ lw_all := lw_g (lw_at lw_m5 41 rfl) rfl
theorem q1037 : (Jvm.Cond.methodLink "java/lang/StringBuilder" (346 : Nat) ({ cls := "java/lang/StringBuilder", name := "compareTo", desc := "(Ljava/lang/StringBuilder;)I" } : Jvm.MethodName)) ∈ lw_all := lw_g (lw_at lw_m5 42 rfl) rfl
theorem q1038 : (Jvm.Cond.instanceMethod ({ cls := "java/lang/StringBuilder", name := "compareTo", desc := "(Ljava/lang/StringBuilder;)I" } : Jvm.MethodName)) ∈ lw_all := lw_g (lw_at lw_m5 43 rfl) rfl
theorem q1039 : (Jvm.Cond.selects "java/lang/StringBuilder" ({ cls := "java/lang/StringBuilder", name := "compareTo", desc := "(Ljava/lang/StringBuilder;)I" } : Jvm.MethodName) ({ cls := "java/lang/StringBuilder", name := "compareTo", desc := "(Ljava/lang/StringBuilder;)I" } : Jvm.MethodName)) ∈ lw_all := lw_g (lw_at lw_m5 44 rfl) rfl
theorem q1040 : (Jvm.Cond.code ({ cls := "java/lang/StringBuilder", name := "compareTo", desc := "(Ljava/lang/StringBuilder;)I" } : Jvm.MethodName) prog_33_method_5_code (2 : Nat) (Option.some Jvm.ClassFile.FieldType.int)) ∈ lw_all := lw_g (lw_at lw_m5 45 rfl) rfl
theorem q1041 : (Jvm.Cond.methodLink "java/lang/StringBuilder" (13 : Nat) ({ cls := "java/lang/AbstractStringBuilder", name := "compareTo", desc := "(Ljava/lang/AbstractStringBuilder;)I" } : Jvm.MethodName)) ∈ lw_all := lw_g (lw_at lw_m5 46 rfl) rfl
theorem q1163 : (Jvm.Cond.instanceMethod ({ cls := "java/lang/StringBuilder", name := "insert", desc := "(IC)Ljava/lang/StringBuilder;" } : Jvm.MethodName)) ∈ lw_all := lw_g (lw_at lw_m5 168 rfl) rfl
theorem q1164 : (Jvm.Cond.selects "java/lang/StringBuilder" ({ cls := "java/lang/StringBuilder", name := "insert", desc := "(IC)Ljava/lang/StringBuilder;" } : Jvm.MethodName) ({ cls := "java/lang/StringBuilder", name := "insert", desc := "(IC)Ljava/lang/StringBuilder;" } : Jvm.MethodName)) ∈ lw_all := lw_g (lw_at lw_m5 169 rfl) rfl
theorem q1165 : (Jvm.Cond.code ({ cls := "java/lang/StringBuilder", name := "insert", desc := "(IC)Ljava/lang/StringBuilder;" } : Jvm.MethodName) prog_33_method_30_code (3 : Nat) (Option.some (Jvm.ClassFile.FieldType.object "java/lang/StringBuilder"))) ∈ lw_all := lw_g (lw_at lw_m5 170 rfl) rfl
theorem q1166 : (Jvm.Cond.methodLink "java/lang/StringBuilder" (101 : Nat) ({ cls := "java/lang/AbstractStringBuilder", name := "insert", desc := "(IC)Ljava/lang/AbstractStringBuilder;" } : Jvm.MethodName)) ∈ lw_all := lw_g (lw_at lw_m5 171 rfl) rfl
theorem q1792 : (Jvm.Cond.castable "java/lang/StringBuilder" "java/lang/Object") ∈ lw_tbl := lw_at lw_m8 77 rfl
theorem in_J12 : ∀ w ∈ wsJ120, w ∈ lw_all := lw_in wsJ120 [433, 435, 437, 439] (by decide +kernel) (by decide +kernel)

/-! jdk/internal/util/ArraysSupport -/
set_option maxRecDepth 100000
def RJ14 : String := "jdk/internal/util/ArraysSupport"
abbrev cJ14_newLength : ByteArray := prog_65_method_27_code
def yJ14_newLength : MethodName := ⟨RJ14, "newLength", "(III)I"⟩
def dkwJ14_newLength_1 : List UInt8 := [184, 0, 201, 172]
abbrev dktJ14_newLength_1 : List UInt8 := dkwJ14_newLength_1 ++ []
def dkwJ14_newLength_0 : List UInt8 := [26, 27, 28, 184, 0, 194, 96, 62, 3, 29, 162, 0, 11, 29, 18, 200, 163, 0, 5, 29, 172, 26, 27]
abbrev dktJ14_newLength_0 : List UInt8 := dkwJ14_newLength_0 ++ dktJ14_newLength_1
theorem dksJ14_newLength_0 : cJ14_newLength.data.toList.drop 0 = dktJ14_newLength_0 := by decide +kernel
theorem dksJ14_newLength_1 : cJ14_newLength.data.toList.drop 23 = dktJ14_newLength_1 := dk_seg dksJ14_newLength_0 23 rfl rfl
theorem dJ14_newLength_0 : decode cJ14_newLength 0 = .ok (.iload_n 0, 1) := dk_26 (dk_at dksJ14_newLength_0 0 rfl rfl)
theorem dJ14_newLength_1 : decode cJ14_newLength 1 = .ok (.iload_n 1, 1) := dk_27 (dk_at dksJ14_newLength_0 1 rfl rfl)
theorem dJ14_newLength_2 : decode cJ14_newLength 2 = .ok (.iload_n 2, 1) := dk_28 (dk_at dksJ14_newLength_0 2 rfl rfl)
theorem dJ14_newLength_3 : decode cJ14_newLength 3 = .ok (.invokestatic 194, 3) := dk_184 0 194 (dk_at dksJ14_newLength_0 3 rfl rfl)
theorem dJ14_newLength_6 : decode cJ14_newLength 6 = .ok (.iadd, 1) := dk_96 (dk_at dksJ14_newLength_0 6 rfl rfl)
theorem dJ14_newLength_7 : decode cJ14_newLength 7 = .ok (.istore_n 3, 1) := dk_62 (dk_at dksJ14_newLength_0 7 rfl rfl)
theorem dJ14_newLength_8 : decode cJ14_newLength 8 = .ok (.iconst 0, 1) := dk_3 (dk_at dksJ14_newLength_0 8 rfl rfl)
theorem dJ14_newLength_9 : decode cJ14_newLength 9 = .ok (.iload_n 3, 1) := dk_29 (dk_at dksJ14_newLength_0 9 rfl rfl)
theorem dJ14_newLength_10 : decode cJ14_newLength 10 = .ok (.if_icmp .ge 11, 3) := dk_162 0 11 (dk_at dksJ14_newLength_0 10 rfl rfl)
theorem dJ14_newLength_13 : decode cJ14_newLength 13 = .ok (.iload_n 3, 1) := dk_29 (dk_at dksJ14_newLength_0 13 rfl rfl)
theorem dJ14_newLength_14 : decode cJ14_newLength 14 = .ok (.ldc 200, 2) := dk_18 200 (dk_at dksJ14_newLength_0 14 rfl rfl)
theorem dJ14_newLength_16 : decode cJ14_newLength 16 = .ok (.if_icmp .gt 5, 3) := dk_163 0 5 (dk_at dksJ14_newLength_0 16 rfl rfl)
theorem dJ14_newLength_19 : decode cJ14_newLength 19 = .ok (.iload_n 3, 1) := dk_29 (dk_at dksJ14_newLength_0 19 rfl rfl)
theorem dJ14_newLength_20 : decode cJ14_newLength 20 = .ok (.ireturn, 1) := dk_172 (dk_at dksJ14_newLength_0 20 rfl rfl)
theorem dJ14_newLength_21 : decode cJ14_newLength 21 = .ok (.iload_n 0, 1) := dk_26 (dk_at dksJ14_newLength_0 21 rfl rfl)
theorem dJ14_newLength_22 : decode cJ14_newLength 22 = .ok (.iload_n 1, 1) := dk_27 (dk_at dksJ14_newLength_0 22 rfl rfl)
theorem dJ14_newLength_23 : decode cJ14_newLength 23 = .ok (.invokestatic 201, 3) := dk_184 0 201 (dk_at dksJ14_newLength_1 0 rfl rfl)
theorem dJ14_newLength_26 : decode cJ14_newLength 26 = .ok (.ireturn, 1) := dk_172 (dk_at dksJ14_newLength_1 3 rfl rfl)
abbrev cJ14_mismatch : ByteArray := prog_65_method_13_code
def yJ14_mismatch : MethodName := ⟨RJ14, "mismatch", "([B[BI)I"⟩
def dkwJ14_mismatch_3 : List UInt8 := [172]
abbrev dktJ14_mismatch_3 : List UInt8 := dkwJ14_mismatch_3 ++ []
def dkwJ14_mismatch_2 : List UInt8 := [62, 29, 28, 162, 0, 20, 42, 29, 51, 43, 29, 51, 159, 0, 5, 29, 172, 132, 3, 1, 167, 255, 237, 2]
abbrev dktJ14_mismatch_2 : List UInt8 := dkwJ14_mismatch_2 ++ dktJ14_mismatch_3
def dkwJ14_mismatch_1 : List UInt8 := [43, 178, 0, 126, 133, 28, 178, 0, 129, 184, 0, 122, 62, 29, 155, 0, 5, 29, 172, 28, 29, 2, 130, 100]
abbrev dktJ14_mismatch_1 : List UInt8 := dkwJ14_mismatch_1 ++ dktJ14_mismatch_2
def dkwJ14_mismatch_0 : List UInt8 := [3, 62, 28, 16, 7, 164, 0, 44, 42, 3, 51, 43, 3, 51, 159, 0, 5, 3, 172, 42, 178, 0, 126, 133]
abbrev dktJ14_mismatch_0 : List UInt8 := dkwJ14_mismatch_0 ++ dktJ14_mismatch_1
theorem dksJ14_mismatch_0 : cJ14_mismatch.data.toList.drop 0 = dktJ14_mismatch_0 := by decide +kernel
theorem dksJ14_mismatch_1 : cJ14_mismatch.data.toList.drop 24 = dktJ14_mismatch_1 := dk_seg dksJ14_mismatch_0 24 rfl rfl
theorem dksJ14_mismatch_2 : cJ14_mismatch.data.toList.drop 48 = dktJ14_mismatch_2 := dk_seg dksJ14_mismatch_1 24 rfl rfl
theorem dksJ14_mismatch_3 : cJ14_mismatch.data.toList.drop 72 = dktJ14_mismatch_3 := dk_seg dksJ14_mismatch_2 24 rfl rfl
theorem dJ14_mismatch_0 : decode cJ14_mismatch 0 = .ok (.iconst 0, 1) := dk_3 (dk_at dksJ14_mismatch_0 0 rfl rfl)
theorem dJ14_mismatch_1 : decode cJ14_mismatch 1 = .ok (.istore_n 3, 1) := dk_62 (dk_at dksJ14_mismatch_0 1 rfl rfl)
theorem dJ14_mismatch_2 : decode cJ14_mismatch 2 = .ok (.iload_n 2, 1) := dk_28 (dk_at dksJ14_mismatch_0 2 rfl rfl)
theorem dJ14_mismatch_3 : decode cJ14_mismatch 3 = .ok (.bipush 7, 2) := dk_16 7 (dk_at dksJ14_mismatch_0 3 rfl rfl)
theorem dJ14_mismatch_5 : decode cJ14_mismatch 5 = .ok (.if_icmp .le 44, 3) := dk_164 0 44 (dk_at dksJ14_mismatch_0 5 rfl rfl)
theorem dJ14_mismatch_8 : decode cJ14_mismatch 8 = .ok (.aload_n 0, 1) := dk_42 (dk_at dksJ14_mismatch_0 8 rfl rfl)
theorem dJ14_mismatch_9 : decode cJ14_mismatch 9 = .ok (.iconst 0, 1) := dk_3 (dk_at dksJ14_mismatch_0 9 rfl rfl)
theorem dJ14_mismatch_10 : decode cJ14_mismatch 10 = .ok (.baload, 1) := dk_51 (dk_at dksJ14_mismatch_0 10 rfl rfl)
theorem dJ14_mismatch_11 : decode cJ14_mismatch 11 = .ok (.aload_n 1, 1) := dk_43 (dk_at dksJ14_mismatch_0 11 rfl rfl)
theorem dJ14_mismatch_12 : decode cJ14_mismatch 12 = .ok (.iconst 0, 1) := dk_3 (dk_at dksJ14_mismatch_0 12 rfl rfl)
theorem dJ14_mismatch_13 : decode cJ14_mismatch 13 = .ok (.baload, 1) := dk_51 (dk_at dksJ14_mismatch_0 13 rfl rfl)
theorem dJ14_mismatch_14 : decode cJ14_mismatch 14 = .ok (.if_icmp .eq 5, 3) := dk_159 0 5 (dk_at dksJ14_mismatch_0 14 rfl rfl)
theorem dJ14_mismatch_17 : decode cJ14_mismatch 17 = .ok (.iconst 0, 1) := dk_3 (dk_at dksJ14_mismatch_0 17 rfl rfl)
theorem dJ14_mismatch_18 : decode cJ14_mismatch 18 = .ok (.ireturn, 1) := dk_172 (dk_at dksJ14_mismatch_0 18 rfl rfl)
theorem dJ14_mismatch_19 : decode cJ14_mismatch 19 = .ok (.aload_n 0, 1) := dk_42 (dk_at dksJ14_mismatch_0 19 rfl rfl)
theorem dJ14_mismatch_20 : decode cJ14_mismatch 20 = .ok (.getstatic 126, 3) := dk_178 0 126 (dk_at dksJ14_mismatch_0 20 rfl rfl)
theorem dJ14_mismatch_23 : decode cJ14_mismatch 23 = .ok (.i2l, 1) := dk_133 (dk_at dksJ14_mismatch_0 23 rfl rfl)
theorem dJ14_mismatch_24 : decode cJ14_mismatch 24 = .ok (.aload_n 1, 1) := dk_43 (dk_at dksJ14_mismatch_1 0 rfl rfl)
theorem dJ14_mismatch_25 : decode cJ14_mismatch 25 = .ok (.getstatic 126, 3) := dk_178 0 126 (dk_at dksJ14_mismatch_1 1 rfl rfl)
theorem dJ14_mismatch_28 : decode cJ14_mismatch 28 = .ok (.i2l, 1) := dk_133 (dk_at dksJ14_mismatch_1 4 rfl rfl)
theorem dJ14_mismatch_29 : decode cJ14_mismatch 29 = .ok (.iload_n 2, 1) := dk_28 (dk_at dksJ14_mismatch_1 5 rfl rfl)
theorem dJ14_mismatch_30 : decode cJ14_mismatch 30 = .ok (.getstatic 129, 3) := dk_178 0 129 (dk_at dksJ14_mismatch_1 6 rfl rfl)
theorem dJ14_mismatch_33 : decode cJ14_mismatch 33 = .ok (.invokestatic 122, 3) := dk_184 0 122 (dk_at dksJ14_mismatch_1 9 rfl rfl)
theorem dJ14_mismatch_36 : decode cJ14_mismatch 36 = .ok (.istore_n 3, 1) := dk_62 (dk_at dksJ14_mismatch_1 12 rfl rfl)
theorem dJ14_mismatch_37 : decode cJ14_mismatch 37 = .ok (.iload_n 3, 1) := dk_29 (dk_at dksJ14_mismatch_1 13 rfl rfl)
theorem dJ14_mismatch_38 : decode cJ14_mismatch 38 = .ok (.ifCond .lt 5, 3) := dk_155 0 5 (dk_at dksJ14_mismatch_1 14 rfl rfl)
theorem dJ14_mismatch_41 : decode cJ14_mismatch 41 = .ok (.iload_n 3, 1) := dk_29 (dk_at dksJ14_mismatch_1 17 rfl rfl)
theorem dJ14_mismatch_42 : decode cJ14_mismatch 42 = .ok (.ireturn, 1) := dk_172 (dk_at dksJ14_mismatch_1 18 rfl rfl)
theorem dJ14_mismatch_43 : decode cJ14_mismatch 43 = .ok (.iload_n 2, 1) := dk_28 (dk_at dksJ14_mismatch_1 19 rfl rfl)
theorem dJ14_mismatch_44 : decode cJ14_mismatch 44 = .ok (.iload_n 3, 1) := dk_29 (dk_at dksJ14_mismatch_1 20 rfl rfl)
theorem dJ14_mismatch_45 : decode cJ14_mismatch 45 = .ok (.iconst (-1), 1) := dk_2 (dk_at dksJ14_mismatch_1 21 rfl rfl)
theorem dJ14_mismatch_46 : decode cJ14_mismatch 46 = .ok (.ixor, 1) := dk_130 (dk_at dksJ14_mismatch_1 22 rfl rfl)
theorem dJ14_mismatch_47 : decode cJ14_mismatch 47 = .ok (.isub, 1) := dk_100 (dk_at dksJ14_mismatch_1 23 rfl rfl)
theorem dJ14_mismatch_48 : decode cJ14_mismatch 48 = .ok (.istore_n 3, 1) := dk_62 (dk_at dksJ14_mismatch_2 0 rfl rfl)
theorem dJ14_mismatch_49 : decode cJ14_mismatch 49 = .ok (.iload_n 3, 1) := dk_29 (dk_at dksJ14_mismatch_2 1 rfl rfl)
theorem dJ14_mismatch_50 : decode cJ14_mismatch 50 = .ok (.iload_n 2, 1) := dk_28 (dk_at dksJ14_mismatch_2 2 rfl rfl)
theorem dJ14_mismatch_51 : decode cJ14_mismatch 51 = .ok (.if_icmp .ge 20, 3) := dk_162 0 20 (dk_at dksJ14_mismatch_2 3 rfl rfl)
theorem dJ14_mismatch_54 : decode cJ14_mismatch 54 = .ok (.aload_n 0, 1) := dk_42 (dk_at dksJ14_mismatch_2 6 rfl rfl)
theorem dJ14_mismatch_55 : decode cJ14_mismatch 55 = .ok (.iload_n 3, 1) := dk_29 (dk_at dksJ14_mismatch_2 7 rfl rfl)
theorem dJ14_mismatch_56 : decode cJ14_mismatch 56 = .ok (.baload, 1) := dk_51 (dk_at dksJ14_mismatch_2 8 rfl rfl)
theorem dJ14_mismatch_57 : decode cJ14_mismatch 57 = .ok (.aload_n 1, 1) := dk_43 (dk_at dksJ14_mismatch_2 9 rfl rfl)
theorem dJ14_mismatch_58 : decode cJ14_mismatch 58 = .ok (.iload_n 3, 1) := dk_29 (dk_at dksJ14_mismatch_2 10 rfl rfl)
theorem dJ14_mismatch_59 : decode cJ14_mismatch 59 = .ok (.baload, 1) := dk_51 (dk_at dksJ14_mismatch_2 11 rfl rfl)
theorem dJ14_mismatch_60 : decode cJ14_mismatch 60 = .ok (.if_icmp .eq 5, 3) := dk_159 0 5 (dk_at dksJ14_mismatch_2 12 rfl rfl)
theorem dJ14_mismatch_63 : decode cJ14_mismatch 63 = .ok (.iload_n 3, 1) := dk_29 (dk_at dksJ14_mismatch_2 15 rfl rfl)
theorem dJ14_mismatch_64 : decode cJ14_mismatch 64 = .ok (.ireturn, 1) := dk_172 (dk_at dksJ14_mismatch_2 16 rfl rfl)
theorem dJ14_mismatch_65 : decode cJ14_mismatch 65 = .ok (.iinc 3 1, 3) := dk_132 3 1 (dk_at dksJ14_mismatch_2 17 rfl rfl)
theorem dJ14_mismatch_68 : decode cJ14_mismatch 68 = .ok (.goto (-19), 3) := dk_167 255 237 (dk_at dksJ14_mismatch_2 20 rfl rfl)
theorem dJ14_mismatch_71 : decode cJ14_mismatch 71 = .ok (.iconst (-1), 1) := dk_2 (dk_at dksJ14_mismatch_2 23 rfl rfl)
theorem dJ14_mismatch_72 : decode cJ14_mismatch 72 = .ok (.ireturn, 1) := dk_172 (dk_at dksJ14_mismatch_3 0 rfl rfl)
theorem q56 : (Jvm.Cond.initialized "jdk/internal/util/ArraysSupport") ∈ lw_all := lw_g (lw_at lw_m1 21 rfl) rfl
theorem q462 : (Jvm.Cond.static ({ cls := "jdk/internal/util/ArraysSupport", name := "newLength", desc := "(III)I" } : Jvm.MethodName)) ∈ lw_all := lw_g (lw_at lw_m2 187 rfl) rfl
theorem q463 : (Jvm.Cond.code ({ cls := "jdk/internal/util/ArraysSupport", name := "newLength", desc := "(III)I" } : Jvm.MethodName) prog_65_method_27_code (4 : Nat) (Option.some Jvm.ClassFile.FieldType.int)) ∈ lw_all := lw_g (lw_at lw_m2 188 rfl) rfl
theorem q464 : (Jvm.Cond.methodLink "jdk/internal/util/ArraysSupport" (194 : Nat) ({ cls := "java/lang/Math", name := "max", desc := "(II)I" } : Jvm.MethodName)) ∈ lw_all := lw_g (lw_at lw_m2 189 rfl) rfl
theorem q467 : (Jvm.Cond.constant "jdk/internal/util/ArraysSupport" (200 : Nat) (2147483639 : Int32)) ∈ lw_all := lw_g (lw_at lw_m2 192 rfl) rfl
theorem q468 : (Jvm.Cond.methodLink "jdk/internal/util/ArraysSupport" (201 : Nat) ({ cls := "jdk/internal/util/ArraysSupport", name := "hugeLength", desc := "(II)I" } : Jvm.MethodName)) ∈ lw_all := lw_g (lw_at lw_m2 193 rfl) rfl
theorem q469 : (Jvm.Cond.static ({ cls := "jdk/internal/util/ArraysSupport", name := "hugeLength", desc := "(II)I" } : Jvm.MethodName)) ∈ lw_all := lw_g (lw_at lw_m2 194 rfl) rfl
theorem q470 : (Jvm.Cond.code ({ cls := "jdk/internal/util/ArraysSupport", name := "hugeLength", desc := "(II)I" } : Jvm.MethodName) prog_65_method_28_code (3 : Nat) (Option.some Jvm.ClassFile.FieldType.int)) ∈ lw_all := lw_g (lw_at lw_m2 195 rfl) rfl
theorem q886 : (Jvm.Cond.static ({ cls := "jdk/internal/util/ArraysSupport", name := "mismatch", desc := "([B[BI)I" } : Jvm.MethodName)) ∈ lw_all := lw_g (lw_at lw_m4 131 rfl) rfl
theorem q887 : (Jvm.Cond.code ({ cls := "jdk/internal/util/ArraysSupport", name := "mismatch", desc := "([B[BI)I" } : Jvm.MethodName) prog_65_method_13_code (4 : Nat) (Option.some Jvm.ClassFile.FieldType.int)) ∈ lw_all := lw_g (lw_at lw_m4 132 rfl) rfl
theorem q888 : (Jvm.Cond.fieldLink "jdk/internal/util/ArraysSupport" (126 : Nat) "jdk/internal/misc/Unsafe" "ARRAY_BYTE_BASE_OFFSET" "I") ∈ lw_all := lw_g (lw_at lw_m4 133 rfl) rfl
theorem q890 : (Jvm.Cond.fieldLink "jdk/internal/util/ArraysSupport" (129 : Nat) "jdk/internal/util/ArraysSupport" "LOG2_ARRAY_BYTE_INDEX_SCALE" "I") ∈ lw_all := lw_g (lw_at lw_m4 135 rfl) rfl
theorem q891 : (Jvm.Cond.laysStatic "jdk/internal/util/ArraysSupport" "LOG2_ARRAY_BYTE_INDEX_SCALE" "I") ∈ lw_tbl := lw_at lw_m4 136 rfl
theorem q892 : (Jvm.Cond.methodLink "jdk/internal/util/ArraysSupport" (122 : Nat) ({ cls := "jdk/internal/util/ArraysSupport", name := "vectorizedMismatch", desc := "(Ljava/lang/Object;JLjava/lang/Object;JII)I" } : Jvm.MethodName)) ∈ lw_all := lw_g (lw_at lw_m4 137 rfl) rfl
theorem q893 : (Jvm.Cond.static ({ cls := "jdk/internal/util/ArraysSupport", name := "vectorizedMismatch", desc := "(Ljava/lang/Object;JLjava/lang/Object;JII)I" } : Jvm.MethodName)) ∈ lw_all := lw_g (lw_at lw_m4 138 rfl) rfl
theorem q894 : (Jvm.Cond.code ({ cls := "jdk/internal/util/ArraysSupport", name := "vectorizedMismatch", desc := "(Ljava/lang/Object;JLjava/lang/Object;JII)I" } : Jvm.MethodName) prog_65_method_3_code (19 : Nat) (Option.some Jvm.ClassFile.FieldType.int)) ∈ lw_all := lw_g (lw_at lw_m4 139 rfl) rfl
theorem q895 : (Jvm.Cond.fieldLink "jdk/internal/util/ArraysSupport" (20 : Nat) "jdk/internal/util/ArraysSupport" "LOG2_ARRAY_LONG_INDEX_SCALE" "I") ∈ lw_all := lw_g (lw_at lw_m4 140 rfl) rfl
theorem q896 : (Jvm.Cond.laysStatic "jdk/internal/util/ArraysSupport" "LOG2_ARRAY_LONG_INDEX_SCALE" "I") ∈ lw_tbl := lw_at lw_m4 141 rfl
theorem q897 : (Jvm.Cond.fieldLink "jdk/internal/util/ArraysSupport" (26 : Nat) "jdk/internal/util/ArraysSupport" "U" "Ljdk/internal/misc/Unsafe;") ∈ lw_all := lw_g (lw_at lw_m4 142 rfl) rfl
theorem q898 : (Jvm.Cond.laysStatic "jdk/internal/util/ArraysSupport" "U" "Ljdk/internal/misc/Unsafe;") ∈ lw_tbl := lw_at lw_m4 143 rfl
theorem q899 : (Jvm.Cond.methodLink "jdk/internal/util/ArraysSupport" (30 : Nat) ({ cls := "jdk/internal/misc/Unsafe", name := "getLongUnaligned", desc := "(Ljava/lang/Object;J)J" } : Jvm.MethodName)) ∈ lw_all := lw_g (lw_at lw_m4 144 rfl) rfl
theorem q951 : (Jvm.Cond.fieldLink "jdk/internal/util/ArraysSupport" (36 : Nat) "jdk/internal/util/ArraysSupport" "BIG_ENDIAN" "Z") ∈ lw_all := lw_g (lw_at lw_m4 196 rfl) rfl
theorem q952 : (Jvm.Cond.laysStatic "jdk/internal/util/ArraysSupport" "BIG_ENDIAN" "Z") ∈ lw_tbl := lw_at lw_m4 197 rfl
theorem q953 : (Jvm.Cond.methodLink "jdk/internal/util/ArraysSupport" (40 : Nat) ({ cls := "java/lang/Long", name := "numberOfLeadingZeros", desc := "(J)I" } : Jvm.MethodName)) ∈ lw_all := lw_g (lw_at lw_m4 198 rfl) rfl
theorem q960 : (Jvm.Cond.fieldLink "jdk/internal/util/ArraysSupport" (46 : Nat) "jdk/internal/util/ArraysSupport" "LOG2_BYTE_BIT_SIZE" "I") ∈ lw_all := lw_g (lw_at lw_m4 205 rfl) rfl
theorem q961 : (Jvm.Cond.laysStatic "jdk/internal/util/ArraysSupport" "LOG2_BYTE_BIT_SIZE" "I") ∈ lw_tbl := lw_at lw_m4 206 rfl
theorem q962 : (Jvm.Cond.methodLink "jdk/internal/util/ArraysSupport" (49 : Nat) ({ cls := "java/lang/Long", name := "numberOfTrailingZeros", desc := "(J)I" } : Jvm.MethodName)) ∈ lw_all := lw_g (lw_at lw_m4 207 rfl) rfl
theorem q968 : (Jvm.Cond.fieldLink "jdk/internal/util/ArraysSupport" (51 : Nat) "jdk/internal/util/ArraysSupport" "LOG2_ARRAY_INT_INDEX_SCALE" "I") ∈ lw_all := lw_g (lw_at lw_m4 213 rfl) rfl
theorem q969 : (Jvm.Cond.laysStatic "jdk/internal/util/ArraysSupport" "LOG2_ARRAY_INT_INDEX_SCALE" "I") ∈ lw_tbl := lw_at lw_m4 214 rfl
theorem q970 : (Jvm.Cond.methodLink "jdk/internal/util/ArraysSupport" (54 : Nat) ({ cls := "jdk/internal/misc/Unsafe", name := "getIntUnaligned", desc := "(Ljava/lang/Object;J)I" } : Jvm.MethodName)) ∈ lw_all := lw_g (lw_at lw_m4 215 rfl) rfl
theorem q987 : (Jvm.Cond.methodLink "jdk/internal/util/ArraysSupport" (58 : Nat) ({ cls := "java/lang/Integer", name := "numberOfLeadingZeros", desc := "(I)I" } : Jvm.MethodName)) ∈ lw_all := lw_g (lw_at lw_m4 232 rfl) rfl
theorem q988 : (Jvm.Cond.methodLink "jdk/internal/util/ArraysSupport" (11 : Nat) ({ cls := "java/lang/Integer", name := "numberOfTrailingZeros", desc := "(I)I" } : Jvm.MethodName)) ∈ lw_all := lw_g (lw_at lw_m4 233 rfl) rfl

/-! java/lang/Math -/
set_option maxRecDepth 100000
def RJ15 : String := "java/lang/Math"
abbrev cJ15_max : ByteArray := prog_28_method_65_code
def yJ15_max : MethodName := ⟨RJ15, "max", "(II)I"⟩
def dkwJ15_max_0 : List UInt8 := [26, 27, 161, 0, 7, 26, 167, 0, 4, 27, 172]
abbrev dktJ15_max_0 : List UInt8 := dkwJ15_max_0 ++ []
theorem dksJ15_max_0 : cJ15_max.data.toList.drop 0 = dktJ15_max_0 := by decide +kernel
theorem dJ15_max_0 : decode cJ15_max 0 = .ok (.iload_n 0, 1) := dk_26 (dk_at dksJ15_max_0 0 rfl rfl)
theorem dJ15_max_1 : decode cJ15_max 1 = .ok (.iload_n 1, 1) := dk_27 (dk_at dksJ15_max_0 1 rfl rfl)
theorem dJ15_max_2 : decode cJ15_max 2 = .ok (.if_icmp .lt 7, 3) := dk_161 0 7 (dk_at dksJ15_max_0 2 rfl rfl)
theorem dJ15_max_5 : decode cJ15_max 5 = .ok (.iload_n 0, 1) := dk_26 (dk_at dksJ15_max_0 5 rfl rfl)
theorem dJ15_max_6 : decode cJ15_max 6 = .ok (.goto 4, 3) := dk_167 0 4 (dk_at dksJ15_max_0 6 rfl rfl)
theorem dJ15_max_9 : decode cJ15_max 9 = .ok (.iload_n 1, 1) := dk_27 (dk_at dksJ15_max_0 9 rfl rfl)
theorem dJ15_max_10 : decode cJ15_max 10 = .ok (.ireturn, 1) := dk_172 (dk_at dksJ15_max_0 10 rfl rfl)
abbrev cJ15_min : ByteArray := prog_28_method_69_code
def yJ15_min : MethodName := ⟨RJ15, "min", "(II)I"⟩
def dkwJ15_min_0 : List UInt8 := [26, 27, 163, 0, 7, 26, 167, 0, 4, 27, 172]
abbrev dktJ15_min_0 : List UInt8 := dkwJ15_min_0 ++ []
theorem dksJ15_min_0 : cJ15_min.data.toList.drop 0 = dktJ15_min_0 := by decide +kernel
theorem dJ15_min_0 : decode cJ15_min 0 = .ok (.iload_n 0, 1) := dk_26 (dk_at dksJ15_min_0 0 rfl rfl)
theorem dJ15_min_1 : decode cJ15_min 1 = .ok (.iload_n 1, 1) := dk_27 (dk_at dksJ15_min_0 1 rfl rfl)
theorem dJ15_min_2 : decode cJ15_min 2 = .ok (.if_icmp .gt 7, 3) := dk_163 0 7 (dk_at dksJ15_min_0 2 rfl rfl)
theorem dJ15_min_5 : decode cJ15_min 5 = .ok (.iload_n 0, 1) := dk_26 (dk_at dksJ15_min_0 5 rfl rfl)
theorem dJ15_min_6 : decode cJ15_min 6 = .ok (.goto 4, 3) := dk_167 0 4 (dk_at dksJ15_min_0 6 rfl rfl)
theorem dJ15_min_9 : decode cJ15_min 9 = .ok (.iload_n 1, 1) := dk_27 (dk_at dksJ15_min_0 9 rfl rfl)
theorem dJ15_min_10 : decode cJ15_min 10 = .ok (.ireturn, 1) := dk_172 (dk_at dksJ15_min_0 10 rfl rfl)
abbrev cJ15_max_2 : ByteArray := prog_28_method_66_code
def yJ15_max_2 : MethodName := ⟨RJ15, "max", "(JJ)J"⟩
def dkwJ15_max_2_0 : List UInt8 := [30, 32, 148, 155, 0, 7, 30, 167, 0, 4, 32, 173]
abbrev dktJ15_max_2_0 : List UInt8 := dkwJ15_max_2_0 ++ []
theorem dksJ15_max_2_0 : cJ15_max_2.data.toList.drop 0 = dktJ15_max_2_0 := by decide +kernel
theorem dJ15_max_2_0 : decode cJ15_max_2 0 = .ok (.lload_n 0, 1) := dk_30 (dk_at dksJ15_max_2_0 0 rfl rfl)
theorem dJ15_max_2_1 : decode cJ15_max_2 1 = .ok (.lload_n 2, 1) := dk_32 (dk_at dksJ15_max_2_0 1 rfl rfl)
theorem dJ15_max_2_2 : decode cJ15_max_2 2 = .ok (.lcmp, 1) := dk_148 (dk_at dksJ15_max_2_0 2 rfl rfl)
theorem dJ15_max_2_3 : decode cJ15_max_2 3 = .ok (.ifCond .lt 7, 3) := dk_155 0 7 (dk_at dksJ15_max_2_0 3 rfl rfl)
theorem dJ15_max_2_6 : decode cJ15_max_2 6 = .ok (.lload_n 0, 1) := dk_30 (dk_at dksJ15_max_2_0 6 rfl rfl)
theorem dJ15_max_2_7 : decode cJ15_max_2 7 = .ok (.goto 4, 3) := dk_167 0 4 (dk_at dksJ15_max_2_0 7 rfl rfl)
theorem dJ15_max_2_10 : decode cJ15_max_2 10 = .ok (.lload_n 2, 1) := dk_32 (dk_at dksJ15_max_2_0 10 rfl rfl)
theorem dJ15_max_2_11 : decode cJ15_max_2 11 = .ok (.lreturn, 1) := dk_173 (dk_at dksJ15_max_2_0 11 rfl rfl)
theorem q57 : (Jvm.Cond.initialized "java/lang/Math") ∈ lw_all := lw_g (lw_at lw_m1 22 rfl) rfl
theorem q465 : (Jvm.Cond.static ({ cls := "java/lang/Math", name := "max", desc := "(II)I" } : Jvm.MethodName)) ∈ lw_all := lw_g (lw_at lw_m2 190 rfl) rfl
theorem q466 : (Jvm.Cond.code ({ cls := "java/lang/Math", name := "max", desc := "(II)I" } : Jvm.MethodName) prog_28_method_65_code (2 : Nat) (Option.some Jvm.ClassFile.FieldType.int)) ∈ lw_all := lw_g (lw_at lw_m2 191 rfl) rfl
theorem q483 : (Jvm.Cond.static ({ cls := "java/lang/Math", name := "min", desc := "(II)I" } : Jvm.MethodName)) ∈ lw_all := lw_g (lw_at lw_m2 208 rfl) rfl
theorem q484 : (Jvm.Cond.code ({ cls := "java/lang/Math", name := "min", desc := "(II)I" } : Jvm.MethodName) prog_28_method_69_code (2 : Nat) (Option.some Jvm.ClassFile.FieldType.int)) ∈ lw_all := lw_g (lw_at lw_m2 209 rfl) rfl
theorem q1316 : (Jvm.Cond.static ({ cls := "java/lang/Math", name := "max", desc := "(JJ)J" } : Jvm.MethodName)) ∈ lw_all := lw_g (lw_at lw_m6 81 rfl) rfl
theorem q1317 : (Jvm.Cond.code ({ cls := "java/lang/Math", name := "max", desc := "(JJ)J" } : Jvm.MethodName) prog_28_method_66_code (4 : Nat) (Option.some Jvm.ClassFile.FieldType.long)) ∈ lw_all := lw_g (lw_at lw_m6 82 rfl) rfl

/-! java/util/Arrays -/
set_option maxRecDepth 100000
def RJ16 : String := "java/util/Arrays"
abbrev cJ16_copyOf : ByteArray := prog_46_method_121_code
def yJ16_copyOf : MethodName := ⟨RJ16, "copyOf", "([BI)[B"⟩
def dkwJ16_copyOf_1 : List UInt8 := [27, 184, 1, 48, 184, 0, 150, 44, 176]
abbrev dktJ16_copyOf_1 : List UInt8 := dkwJ16_copyOf_1 ++ []
def dkwJ16_copyOf_0 : List UInt8 := [27, 42, 190, 160, 0, 11, 42, 182, 1, 54, 192, 1, 55, 176, 27, 188, 8, 77, 42, 3, 44, 3, 42, 190]
abbrev dktJ16_copyOf_0 : List UInt8 := dkwJ16_copyOf_0 ++ dktJ16_copyOf_1
theorem dksJ16_copyOf_0 : cJ16_copyOf.data.toList.drop 0 = dktJ16_copyOf_0 := by decide +kernel
theorem dksJ16_copyOf_1 : cJ16_copyOf.data.toList.drop 24 = dktJ16_copyOf_1 := dk_seg dksJ16_copyOf_0 24 rfl rfl
theorem dJ16_copyOf_0 : decode cJ16_copyOf 0 = .ok (.iload_n 1, 1) := dk_27 (dk_at dksJ16_copyOf_0 0 rfl rfl)
theorem dJ16_copyOf_1 : decode cJ16_copyOf 1 = .ok (.aload_n 0, 1) := dk_42 (dk_at dksJ16_copyOf_0 1 rfl rfl)
theorem dJ16_copyOf_2 : decode cJ16_copyOf 2 = .ok (.arraylength, 1) := dk_190 (dk_at dksJ16_copyOf_0 2 rfl rfl)
theorem dJ16_copyOf_3 : decode cJ16_copyOf 3 = .ok (.if_icmp .ne 11, 3) := dk_160 0 11 (dk_at dksJ16_copyOf_0 3 rfl rfl)
theorem dJ16_copyOf_6 : decode cJ16_copyOf 6 = .ok (.aload_n 0, 1) := dk_42 (dk_at dksJ16_copyOf_0 6 rfl rfl)
theorem dJ16_copyOf_7 : decode cJ16_copyOf 7 = .ok (.invokevirtual 310, 3) := dk_182 1 54 (dk_at dksJ16_copyOf_0 7 rfl rfl)
theorem dJ16_copyOf_10 : decode cJ16_copyOf 10 = .ok (.checkcast 311, 3) := dk_192 1 55 (dk_at dksJ16_copyOf_0 10 rfl rfl)
theorem dJ16_copyOf_13 : decode cJ16_copyOf 13 = .ok (.areturn, 1) := dk_176 (dk_at dksJ16_copyOf_0 13 rfl rfl)
theorem dJ16_copyOf_14 : decode cJ16_copyOf 14 = .ok (.iload_n 1, 1) := dk_27 (dk_at dksJ16_copyOf_0 14 rfl rfl)
theorem dJ16_copyOf_15 : decode cJ16_copyOf 15 = .ok (.newarray .byte, 2) := dk_188_8 (dk_at dksJ16_copyOf_0 15 rfl rfl)
theorem dJ16_copyOf_17 : decode cJ16_copyOf 17 = .ok (.astore_n 2, 1) := dk_77 (dk_at dksJ16_copyOf_0 17 rfl rfl)
theorem dJ16_copyOf_18 : decode cJ16_copyOf 18 = .ok (.aload_n 0, 1) := dk_42 (dk_at dksJ16_copyOf_0 18 rfl rfl)
theorem dJ16_copyOf_19 : decode cJ16_copyOf 19 = .ok (.iconst 0, 1) := dk_3 (dk_at dksJ16_copyOf_0 19 rfl rfl)
theorem dJ16_copyOf_20 : decode cJ16_copyOf 20 = .ok (.aload_n 2, 1) := dk_44 (dk_at dksJ16_copyOf_0 20 rfl rfl)
theorem dJ16_copyOf_21 : decode cJ16_copyOf 21 = .ok (.iconst 0, 1) := dk_3 (dk_at dksJ16_copyOf_0 21 rfl rfl)
theorem dJ16_copyOf_22 : decode cJ16_copyOf 22 = .ok (.aload_n 0, 1) := dk_42 (dk_at dksJ16_copyOf_0 22 rfl rfl)
theorem dJ16_copyOf_23 : decode cJ16_copyOf 23 = .ok (.arraylength, 1) := dk_190 (dk_at dksJ16_copyOf_0 23 rfl rfl)
theorem dJ16_copyOf_24 : decode cJ16_copyOf 24 = .ok (.iload_n 1, 1) := dk_27 (dk_at dksJ16_copyOf_1 0 rfl rfl)
theorem dJ16_copyOf_25 : decode cJ16_copyOf 25 = .ok (.invokestatic 304, 3) := dk_184 1 48 (dk_at dksJ16_copyOf_1 1 rfl rfl)
theorem dJ16_copyOf_28 : decode cJ16_copyOf 28 = .ok (.invokestatic 150, 3) := dk_184 0 150 (dk_at dksJ16_copyOf_1 4 rfl rfl)
theorem dJ16_copyOf_31 : decode cJ16_copyOf 31 = .ok (.aload_n 2, 1) := dk_44 (dk_at dksJ16_copyOf_1 7 rfl rfl)
theorem dJ16_copyOf_32 : decode cJ16_copyOf 32 = .ok (.areturn, 1) := dk_176 (dk_at dksJ16_copyOf_1 8 rfl rfl)
abbrev cJ16_copyOfRange : ByteArray := prog_46_method_132_code
def yJ16_copyOfRange : MethodName := ⟨RJ16, "copyOfRange", "([BII)[B"⟩
def dkwJ16_copyOfRange_1 : List UInt8 := [176]
abbrev dktJ16_copyOfRange_1 : List UInt8 := dkwJ16_copyOfRange_1 ++ []
def dkwJ16_copyOfRange_0 : List UInt8 := [27, 154, 0, 9, 28, 42, 190, 159, 0, 10, 42, 27, 28, 184, 1, 83, 176, 42, 182, 1, 54, 192, 1, 55]
abbrev dktJ16_copyOfRange_0 : List UInt8 := dkwJ16_copyOfRange_0 ++ dktJ16_copyOfRange_1
theorem dksJ16_copyOfRange_0 : cJ16_copyOfRange.data.toList.drop 0 = dktJ16_copyOfRange_0 := by decide +kernel
theorem dksJ16_copyOfRange_1 : cJ16_copyOfRange.data.toList.drop 24 = dktJ16_copyOfRange_1 := dk_seg dksJ16_copyOfRange_0 24 rfl rfl
theorem dJ16_copyOfRange_0 : decode cJ16_copyOfRange 0 = .ok (.iload_n 1, 1) := dk_27 (dk_at dksJ16_copyOfRange_0 0 rfl rfl)
theorem dJ16_copyOfRange_1 : decode cJ16_copyOfRange 1 = .ok (.ifCond .ne 9, 3) := dk_154 0 9 (dk_at dksJ16_copyOfRange_0 1 rfl rfl)
theorem dJ16_copyOfRange_4 : decode cJ16_copyOfRange 4 = .ok (.iload_n 2, 1) := dk_28 (dk_at dksJ16_copyOfRange_0 4 rfl rfl)
theorem dJ16_copyOfRange_5 : decode cJ16_copyOfRange 5 = .ok (.aload_n 0, 1) := dk_42 (dk_at dksJ16_copyOfRange_0 5 rfl rfl)
theorem dJ16_copyOfRange_6 : decode cJ16_copyOfRange 6 = .ok (.arraylength, 1) := dk_190 (dk_at dksJ16_copyOfRange_0 6 rfl rfl)
theorem dJ16_copyOfRange_7 : decode cJ16_copyOfRange 7 = .ok (.if_icmp .eq 10, 3) := dk_159 0 10 (dk_at dksJ16_copyOfRange_0 7 rfl rfl)
theorem dJ16_copyOfRange_10 : decode cJ16_copyOfRange 10 = .ok (.aload_n 0, 1) := dk_42 (dk_at dksJ16_copyOfRange_0 10 rfl rfl)
theorem dJ16_copyOfRange_11 : decode cJ16_copyOfRange 11 = .ok (.iload_n 1, 1) := dk_27 (dk_at dksJ16_copyOfRange_0 11 rfl rfl)
theorem dJ16_copyOfRange_12 : decode cJ16_copyOfRange 12 = .ok (.iload_n 2, 1) := dk_28 (dk_at dksJ16_copyOfRange_0 12 rfl rfl)
theorem dJ16_copyOfRange_13 : decode cJ16_copyOfRange 13 = .ok (.invokestatic 339, 3) := dk_184 1 83 (dk_at dksJ16_copyOfRange_0 13 rfl rfl)
theorem dJ16_copyOfRange_16 : decode cJ16_copyOfRange 16 = .ok (.areturn, 1) := dk_176 (dk_at dksJ16_copyOfRange_0 16 rfl rfl)
theorem dJ16_copyOfRange_17 : decode cJ16_copyOfRange 17 = .ok (.aload_n 0, 1) := dk_42 (dk_at dksJ16_copyOfRange_0 17 rfl rfl)
theorem dJ16_copyOfRange_18 : decode cJ16_copyOfRange 18 = .ok (.invokevirtual 310, 3) := dk_182 1 54 (dk_at dksJ16_copyOfRange_0 18 rfl rfl)
theorem dJ16_copyOfRange_21 : decode cJ16_copyOfRange 21 = .ok (.checkcast 311, 3) := dk_192 1 55 (dk_at dksJ16_copyOfRange_0 21 rfl rfl)
theorem dJ16_copyOfRange_24 : decode cJ16_copyOfRange 24 = .ok (.areturn, 1) := dk_176 (dk_at dksJ16_copyOfRange_1 0 rfl rfl)
abbrev cJ16_copyOfRangeByte : ByteArray := prog_46_method_133_code
def yJ16_copyOfRangeByte : MethodName := ⟨RJ16, "copyOfRangeByte", "([BII)[B"⟩
def dkwJ16_copyOfRangeByte_1 : List UInt8 := [184, 1, 48, 184, 0, 150, 25, 4, 176]
abbrev dktJ16_copyOfRangeByte_1 : List UInt8 := dkwJ16_copyOfRangeByte_1 ++ []
def dkwJ16_copyOfRangeByte_0 : List UInt8 := [27, 28, 184, 1, 87, 28, 27, 100, 62, 29, 188, 8, 58, 4, 42, 27, 25, 4, 3, 42, 190, 27, 100, 29]
abbrev dktJ16_copyOfRangeByte_0 : List UInt8 := dkwJ16_copyOfRangeByte_0 ++ dktJ16_copyOfRangeByte_1
theorem dksJ16_copyOfRangeByte_0 : cJ16_copyOfRangeByte.data.toList.drop 0 = dktJ16_copyOfRangeByte_0 := by decide +kernel
theorem dksJ16_copyOfRangeByte_1 : cJ16_copyOfRangeByte.data.toList.drop 24 = dktJ16_copyOfRangeByte_1 := dk_seg dksJ16_copyOfRangeByte_0 24 rfl rfl
theorem dJ16_copyOfRangeByte_0 : decode cJ16_copyOfRangeByte 0 = .ok (.iload_n 1, 1) := dk_27 (dk_at dksJ16_copyOfRangeByte_0 0 rfl rfl)
theorem dJ16_copyOfRangeByte_1 : decode cJ16_copyOfRangeByte 1 = .ok (.iload_n 2, 1) := dk_28 (dk_at dksJ16_copyOfRangeByte_0 1 rfl rfl)
theorem dJ16_copyOfRangeByte_2 : decode cJ16_copyOfRangeByte 2 = .ok (.invokestatic 343, 3) := dk_184 1 87 (dk_at dksJ16_copyOfRangeByte_0 2 rfl rfl)
theorem dJ16_copyOfRangeByte_5 : decode cJ16_copyOfRangeByte 5 = .ok (.iload_n 2, 1) := dk_28 (dk_at dksJ16_copyOfRangeByte_0 5 rfl rfl)
theorem dJ16_copyOfRangeByte_6 : decode cJ16_copyOfRangeByte 6 = .ok (.iload_n 1, 1) := dk_27 (dk_at dksJ16_copyOfRangeByte_0 6 rfl rfl)
theorem dJ16_copyOfRangeByte_7 : decode cJ16_copyOfRangeByte 7 = .ok (.isub, 1) := dk_100 (dk_at dksJ16_copyOfRangeByte_0 7 rfl rfl)
theorem dJ16_copyOfRangeByte_8 : decode cJ16_copyOfRangeByte 8 = .ok (.istore_n 3, 1) := dk_62 (dk_at dksJ16_copyOfRangeByte_0 8 rfl rfl)
theorem dJ16_copyOfRangeByte_9 : decode cJ16_copyOfRangeByte 9 = .ok (.iload_n 3, 1) := dk_29 (dk_at dksJ16_copyOfRangeByte_0 9 rfl rfl)
theorem dJ16_copyOfRangeByte_10 : decode cJ16_copyOfRangeByte 10 = .ok (.newarray .byte, 2) := dk_188_8 (dk_at dksJ16_copyOfRangeByte_0 10 rfl rfl)
theorem dJ16_copyOfRangeByte_12 : decode cJ16_copyOfRangeByte 12 = .ok (.astore 4, 2) := dk_58 4 (dk_at dksJ16_copyOfRangeByte_0 12 rfl rfl)
theorem dJ16_copyOfRangeByte_14 : decode cJ16_copyOfRangeByte 14 = .ok (.aload_n 0, 1) := dk_42 (dk_at dksJ16_copyOfRangeByte_0 14 rfl rfl)
theorem dJ16_copyOfRangeByte_15 : decode cJ16_copyOfRangeByte 15 = .ok (.iload_n 1, 1) := dk_27 (dk_at dksJ16_copyOfRangeByte_0 15 rfl rfl)
theorem dJ16_copyOfRangeByte_16 : decode cJ16_copyOfRangeByte 16 = .ok (.aload 4, 2) := dk_25 4 (dk_at dksJ16_copyOfRangeByte_0 16 rfl rfl)
theorem dJ16_copyOfRangeByte_18 : decode cJ16_copyOfRangeByte 18 = .ok (.iconst 0, 1) := dk_3 (dk_at dksJ16_copyOfRangeByte_0 18 rfl rfl)
theorem dJ16_copyOfRangeByte_19 : decode cJ16_copyOfRangeByte 19 = .ok (.aload_n 0, 1) := dk_42 (dk_at dksJ16_copyOfRangeByte_0 19 rfl rfl)
theorem dJ16_copyOfRangeByte_20 : decode cJ16_copyOfRangeByte 20 = .ok (.arraylength, 1) := dk_190 (dk_at dksJ16_copyOfRangeByte_0 20 rfl rfl)
theorem dJ16_copyOfRangeByte_21 : decode cJ16_copyOfRangeByte 21 = .ok (.iload_n 1, 1) := dk_27 (dk_at dksJ16_copyOfRangeByte_0 21 rfl rfl)
theorem dJ16_copyOfRangeByte_22 : decode cJ16_copyOfRangeByte 22 = .ok (.isub, 1) := dk_100 (dk_at dksJ16_copyOfRangeByte_0 22 rfl rfl)
theorem dJ16_copyOfRangeByte_23 : decode cJ16_copyOfRangeByte 23 = .ok (.iload_n 3, 1) := dk_29 (dk_at dksJ16_copyOfRangeByte_0 23 rfl rfl)
theorem dJ16_copyOfRangeByte_24 : decode cJ16_copyOfRangeByte 24 = .ok (.invokestatic 304, 3) := dk_184 1 48 (dk_at dksJ16_copyOfRangeByte_1 0 rfl rfl)
theorem dJ16_copyOfRangeByte_27 : decode cJ16_copyOfRangeByte 27 = .ok (.invokestatic 150, 3) := dk_184 0 150 (dk_at dksJ16_copyOfRangeByte_1 3 rfl rfl)
theorem dJ16_copyOfRangeByte_30 : decode cJ16_copyOfRangeByte 30 = .ok (.aload 4, 2) := dk_25 4 (dk_at dksJ16_copyOfRangeByte_1 6 rfl rfl)
theorem dJ16_copyOfRangeByte_32 : decode cJ16_copyOfRangeByte 32 = .ok (.areturn, 1) := dk_176 (dk_at dksJ16_copyOfRangeByte_1 8 rfl rfl)
abbrev cJ16_checkLength : ByteArray := prog_46_method_131_code
def yJ16_checkLength : MethodName := ⟨RJ16, "checkLength", "(II)V"⟩
def dkwJ16_checkLength_1 : List UInt8 := [182, 0, 50, 27, 182, 0, 54, 182, 0, 61, 183, 0, 65, 191, 177]
abbrev dktJ16_checkLength_1 : List UInt8 := dkwJ16_checkLength_1 ++ []
def dkwJ16_checkLength_0 : List UInt8 := [27, 26, 162, 0, 35, 187, 0, 43, 89, 187, 0, 45, 89, 183, 0, 47, 26, 182, 0, 54, 19, 1, 81]
abbrev dktJ16_checkLength_0 : List UInt8 := dkwJ16_checkLength_0 ++ dktJ16_checkLength_1
theorem dksJ16_checkLength_0 : cJ16_checkLength.data.toList.drop 0 = dktJ16_checkLength_0 := by decide +kernel
theorem dksJ16_checkLength_1 : cJ16_checkLength.data.toList.drop 23 = dktJ16_checkLength_1 := dk_seg dksJ16_checkLength_0 23 rfl rfl
theorem dJ16_checkLength_0 : decode cJ16_checkLength 0 = .ok (.iload_n 1, 1) := dk_27 (dk_at dksJ16_checkLength_0 0 rfl rfl)
theorem dJ16_checkLength_1 : decode cJ16_checkLength 1 = .ok (.iload_n 0, 1) := dk_26 (dk_at dksJ16_checkLength_0 1 rfl rfl)
theorem dJ16_checkLength_2 : decode cJ16_checkLength 2 = .ok (.if_icmp .ge 35, 3) := dk_162 0 35 (dk_at dksJ16_checkLength_0 2 rfl rfl)
theorem dJ16_checkLength_5 : decode cJ16_checkLength 5 = .ok (.new 43, 3) := dk_187 0 43 (dk_at dksJ16_checkLength_0 5 rfl rfl)
theorem dJ16_checkLength_8 : decode cJ16_checkLength 8 = .ok (.dup, 1) := dk_89 (dk_at dksJ16_checkLength_0 8 rfl rfl)
theorem dJ16_checkLength_9 : decode cJ16_checkLength 9 = .ok (.new 45, 3) := dk_187 0 45 (dk_at dksJ16_checkLength_0 9 rfl rfl)
theorem dJ16_checkLength_12 : decode cJ16_checkLength 12 = .ok (.dup, 1) := dk_89 (dk_at dksJ16_checkLength_0 12 rfl rfl)
theorem dJ16_checkLength_13 : decode cJ16_checkLength 13 = .ok (.invokespecial 47, 3) := dk_183 0 47 (dk_at dksJ16_checkLength_0 13 rfl rfl)
theorem dJ16_checkLength_16 : decode cJ16_checkLength 16 = .ok (.iload_n 0, 1) := dk_26 (dk_at dksJ16_checkLength_0 16 rfl rfl)
theorem dJ16_checkLength_17 : decode cJ16_checkLength 17 = .ok (.invokevirtual 54, 3) := dk_182 0 54 (dk_at dksJ16_checkLength_0 17 rfl rfl)
theorem dJ16_checkLength_20 : decode cJ16_checkLength 20 = .ok (.ldc_w 337, 3) := dk_19 1 81 (dk_at dksJ16_checkLength_0 20 rfl rfl)
theorem dJ16_checkLength_23 : decode cJ16_checkLength 23 = .ok (.invokevirtual 50, 3) := dk_182 0 50 (dk_at dksJ16_checkLength_1 0 rfl rfl)
theorem dJ16_checkLength_26 : decode cJ16_checkLength 26 = .ok (.iload_n 1, 1) := dk_27 (dk_at dksJ16_checkLength_1 3 rfl rfl)
theorem dJ16_checkLength_27 : decode cJ16_checkLength 27 = .ok (.invokevirtual 54, 3) := dk_182 0 54 (dk_at dksJ16_checkLength_1 4 rfl rfl)
theorem dJ16_checkLength_30 : decode cJ16_checkLength 30 = .ok (.invokevirtual 61, 3) := dk_182 0 61 (dk_at dksJ16_checkLength_1 7 rfl rfl)
theorem dJ16_checkLength_33 : decode cJ16_checkLength 33 = .ok (.invokespecial 65, 3) := dk_183 0 65 (dk_at dksJ16_checkLength_1 10 rfl rfl)
theorem dJ16_checkLength_36 : decode cJ16_checkLength 36 = .ok (.athrow, 1) := dk_191 (dk_at dksJ16_checkLength_1 13 rfl rfl)
theorem dJ16_checkLength_37 : decode cJ16_checkLength 37 = .ok (.return_, 1) := dk_177 (dk_at dksJ16_checkLength_1 14 rfl rfl)
abbrev cJ16_copyOf_2 : ByteArray := prog_46_method_119_code
def yJ16_copyOf_2 : MethodName := ⟨RJ16, "copyOf", "([Ljava/lang/Object;I)[Ljava/lang/Object;"⟩
def dkwJ16_copyOf_2_0 : List UInt8 := [42, 27, 42, 182, 0, 86, 184, 1, 44, 176]
abbrev dktJ16_copyOf_2_0 : List UInt8 := dkwJ16_copyOf_2_0 ++ []
theorem dksJ16_copyOf_2_0 : cJ16_copyOf_2.data.toList.drop 0 = dktJ16_copyOf_2_0 := by decide +kernel
theorem dJ16_copyOf_2_0 : decode cJ16_copyOf_2 0 = .ok (.aload_n 0, 1) := dk_42 (dk_at dksJ16_copyOf_2_0 0 rfl rfl)
theorem dJ16_copyOf_2_1 : decode cJ16_copyOf_2 1 = .ok (.iload_n 1, 1) := dk_27 (dk_at dksJ16_copyOf_2_0 1 rfl rfl)
theorem dJ16_copyOf_2_2 : decode cJ16_copyOf_2 2 = .ok (.aload_n 0, 1) := dk_42 (dk_at dksJ16_copyOf_2_0 2 rfl rfl)
theorem dJ16_copyOf_2_3 : decode cJ16_copyOf_2 3 = .ok (.invokevirtual 86, 3) := dk_182 0 86 (dk_at dksJ16_copyOf_2_0 3 rfl rfl)
theorem dJ16_copyOf_2_6 : decode cJ16_copyOf_2 6 = .ok (.invokestatic 300, 3) := dk_184 1 44 (dk_at dksJ16_copyOf_2_0 6 rfl rfl)
theorem dJ16_copyOf_2_9 : decode cJ16_copyOf_2 9 = .ok (.areturn, 1) := dk_176 (dk_at dksJ16_copyOf_2_0 9 rfl rfl)
abbrev cJ16_copyOf_3 : ByteArray := prog_46_method_120_code
def yJ16_copyOf_3 : MethodName := ⟨RJ16, "copyOf", "([Ljava/lang/Object;ILjava/lang/Class;)[Ljava/lang/Object;"⟩
def dkwJ16_copyOf_3_1 : List UInt8 := [78, 42, 3, 45, 3, 42, 190, 27, 184, 1, 48, 184, 0, 150, 45, 176]
abbrev dktJ16_copyOf_3_1 : List UInt8 := dkwJ16_copyOf_3_1 ++ []
def dkwJ16_copyOf_3_0 : List UInt8 := [44, 18, 110, 166, 0, 10, 27, 189, 0, 2, 167, 0, 14, 44, 182, 0, 90, 27, 184, 0, 95, 192, 0, 110]
abbrev dktJ16_copyOf_3_0 : List UInt8 := dkwJ16_copyOf_3_0 ++ dktJ16_copyOf_3_1
theorem dksJ16_copyOf_3_0 : cJ16_copyOf_3.data.toList.drop 0 = dktJ16_copyOf_3_0 := by decide +kernel
theorem dksJ16_copyOf_3_1 : cJ16_copyOf_3.data.toList.drop 24 = dktJ16_copyOf_3_1 := dk_seg dksJ16_copyOf_3_0 24 rfl rfl
theorem dJ16_copyOf_3_0 : decode cJ16_copyOf_3 0 = .ok (.aload_n 2, 1) := dk_44 (dk_at dksJ16_copyOf_3_0 0 rfl rfl)
theorem dJ16_copyOf_3_1 : decode cJ16_copyOf_3 1 = .ok (.ldc 110, 2) := dk_18 110 (dk_at dksJ16_copyOf_3_0 1 rfl rfl)
theorem dJ16_copyOf_3_3 : decode cJ16_copyOf_3 3 = .ok (.if_acmp .ne 10, 3) := dk_166 0 10 (dk_at dksJ16_copyOf_3_0 3 rfl rfl)
theorem dJ16_copyOf_3_6 : decode cJ16_copyOf_3 6 = .ok (.iload_n 1, 1) := dk_27 (dk_at dksJ16_copyOf_3_0 6 rfl rfl)
theorem dJ16_copyOf_3_7 : decode cJ16_copyOf_3 7 = .ok (.anewarray 2, 3) := dk_189 0 2 (dk_at dksJ16_copyOf_3_0 7 rfl rfl)
theorem dJ16_copyOf_3_10 : decode cJ16_copyOf_3 10 = .ok (.goto 14, 3) := dk_167 0 14 (dk_at dksJ16_copyOf_3_0 10 rfl rfl)
theorem dJ16_copyOf_3_13 : decode cJ16_copyOf_3 13 = .ok (.aload_n 2, 1) := dk_44 (dk_at dksJ16_copyOf_3_0 13 rfl rfl)
theorem dJ16_copyOf_3_14 : decode cJ16_copyOf_3 14 = .ok (.invokevirtual 90, 3) := dk_182 0 90 (dk_at dksJ16_copyOf_3_0 14 rfl rfl)
theorem dJ16_copyOf_3_17 : decode cJ16_copyOf_3 17 = .ok (.iload_n 1, 1) := dk_27 (dk_at dksJ16_copyOf_3_0 17 rfl rfl)
theorem dJ16_copyOf_3_18 : decode cJ16_copyOf_3 18 = .ok (.invokestatic 95, 3) := dk_184 0 95 (dk_at dksJ16_copyOf_3_0 18 rfl rfl)
theorem dJ16_copyOf_3_21 : decode cJ16_copyOf_3 21 = .ok (.checkcast 110, 3) := dk_192 0 110 (dk_at dksJ16_copyOf_3_0 21 rfl rfl)
theorem dJ16_copyOf_3_24 : decode cJ16_copyOf_3 24 = .ok (.astore_n 3, 1) := dk_78 (dk_at dksJ16_copyOf_3_1 0 rfl rfl)
theorem dJ16_copyOf_3_25 : decode cJ16_copyOf_3 25 = .ok (.aload_n 0, 1) := dk_42 (dk_at dksJ16_copyOf_3_1 1 rfl rfl)
theorem dJ16_copyOf_3_26 : decode cJ16_copyOf_3 26 = .ok (.iconst 0, 1) := dk_3 (dk_at dksJ16_copyOf_3_1 2 rfl rfl)
theorem dJ16_copyOf_3_27 : decode cJ16_copyOf_3 27 = .ok (.aload_n 3, 1) := dk_45 (dk_at dksJ16_copyOf_3_1 3 rfl rfl)
theorem dJ16_copyOf_3_28 : decode cJ16_copyOf_3 28 = .ok (.iconst 0, 1) := dk_3 (dk_at dksJ16_copyOf_3_1 4 rfl rfl)
theorem dJ16_copyOf_3_29 : decode cJ16_copyOf_3 29 = .ok (.aload_n 0, 1) := dk_42 (dk_at dksJ16_copyOf_3_1 5 rfl rfl)
theorem dJ16_copyOf_3_30 : decode cJ16_copyOf_3 30 = .ok (.arraylength, 1) := dk_190 (dk_at dksJ16_copyOf_3_1 6 rfl rfl)
theorem dJ16_copyOf_3_31 : decode cJ16_copyOf_3 31 = .ok (.iload_n 1, 1) := dk_27 (dk_at dksJ16_copyOf_3_1 7 rfl rfl)
theorem dJ16_copyOf_3_32 : decode cJ16_copyOf_3 32 = .ok (.invokestatic 304, 3) := dk_184 1 48 (dk_at dksJ16_copyOf_3_1 8 rfl rfl)
theorem dJ16_copyOf_3_35 : decode cJ16_copyOf_3 35 = .ok (.invokestatic 150, 3) := dk_184 0 150 (dk_at dksJ16_copyOf_3_1 11 rfl rfl)
theorem dJ16_copyOf_3_38 : decode cJ16_copyOf_3 38 = .ok (.aload_n 3, 1) := dk_45 (dk_at dksJ16_copyOf_3_1 14 rfl rfl)
theorem dJ16_copyOf_3_39 : decode cJ16_copyOf_3 39 = .ok (.areturn, 1) := dk_176 (dk_at dksJ16_copyOf_3_1 15 rfl rfl)
theorem q58 : (Jvm.Cond.initialized "java/util/Arrays") ∈ lw_all := lw_g (lw_at lw_m1 23 rfl) rfl
theorem q473 : (Jvm.Cond.static ({ cls := "java/util/Arrays", name := "copyOf", desc := "([BI)[B" } : Jvm.MethodName)) ∈ lw_all := lw_g (lw_at lw_m2 198 rfl) rfl
theorem q474 : (Jvm.Cond.code ({ cls := "java/util/Arrays", name := "copyOf", desc := "([BI)[B" } : Jvm.MethodName) prog_46_method_121_code (3 : Nat) (Option.some (Jvm.ClassFile.FieldType.array Jvm.ClassFile.FieldType.byte))) ∈ lw_all := lw_g (lw_at lw_m2 199 rfl) rfl
theorem q475 : (Jvm.Cond.methodLink "java/util/Arrays" (310 : Nat) ({ cls := "[B", name := "clone", desc := "()Ljava/lang/Object;" } : Jvm.MethodName)) ∈ lw_all := lw_g (lw_at lw_m2 200 rfl) rfl
theorem q481 : (Jvm.Cond.classLink "java/util/Arrays" (311 : Nat) "[B") ∈ lw_all := lw_g (lw_at lw_m2 206 rfl) rfl
theorem q482 : (Jvm.Cond.methodLink "java/util/Arrays" (304 : Nat) ({ cls := "java/lang/Math", name := "min", desc := "(II)I" } : Jvm.MethodName)) ∈ lw_all := lw_g (lw_at lw_m2 207 rfl) rfl
theorem q485 : (Jvm.Cond.methodLink "java/util/Arrays" (150 : Nat) ({ cls := "java/lang/System", name := "arraycopy", desc := "(Ljava/lang/Object;ILjava/lang/Object;II)V" } : Jvm.MethodName)) ∈ lw_all := lw_g (lw_at lw_m2 210 rfl) rfl
theorem q600 : (Jvm.Cond.static ({ cls := "java/util/Arrays", name := "copyOfRange", desc := "([BII)[B" } : Jvm.MethodName)) ∈ lw_all := lw_g (lw_at lw_m3 85 rfl) rfl
theorem q601 : (Jvm.Cond.code ({ cls := "java/util/Arrays", name := "copyOfRange", desc := "([BII)[B" } : Jvm.MethodName) prog_46_method_132_code (3 : Nat) (Option.some (Jvm.ClassFile.FieldType.array Jvm.ClassFile.FieldType.byte))) ∈ lw_all := lw_g (lw_at lw_m3 86 rfl) rfl
theorem q602 : (Jvm.Cond.methodLink "java/util/Arrays" (339 : Nat) ({ cls := "java/util/Arrays", name := "copyOfRangeByte", desc := "([BII)[B" } : Jvm.MethodName)) ∈ lw_all := lw_g (lw_at lw_m3 87 rfl) rfl
theorem q603 : (Jvm.Cond.static ({ cls := "java/util/Arrays", name := "copyOfRangeByte", desc := "([BII)[B" } : Jvm.MethodName)) ∈ lw_all := lw_g (lw_at lw_m3 88 rfl) rfl
theorem q604 : (Jvm.Cond.code ({ cls := "java/util/Arrays", name := "copyOfRangeByte", desc := "([BII)[B" } : Jvm.MethodName) prog_46_method_133_code (5 : Nat) (Option.some (Jvm.ClassFile.FieldType.array Jvm.ClassFile.FieldType.byte))) ∈ lw_all := lw_g (lw_at lw_m3 89 rfl) rfl
theorem q605 : (Jvm.Cond.methodLink "java/util/Arrays" (343 : Nat) ({ cls := "java/util/Arrays", name := "checkLength", desc := "(II)V" } : Jvm.MethodName)) ∈ lw_all := lw_g (lw_at lw_m3 90 rfl) rfl
theorem q606 : (Jvm.Cond.static ({ cls := "java/util/Arrays", name := "checkLength", desc := "(II)V" } : Jvm.MethodName)) ∈ lw_all := lw_g (lw_at lw_m3 91 rfl) rfl
theorem q607 : (Jvm.Cond.code ({ cls := "java/util/Arrays", name := "checkLength", desc := "(II)V" } : Jvm.MethodName) prog_46_method_131_code (2 : Nat) (Option.none : Option Jvm.ClassFile.FieldType)) ∈ lw_all := lw_g (lw_at lw_m3 92 rfl) rfl
theorem q608 : (Jvm.Cond.classLink "java/util/Arrays" (43 : Nat) "java/lang/IllegalArgumentException") ∈ lw_all := lw_g (lw_at lw_m3 93 rfl) rfl
theorem q609 : (Jvm.Cond.classLink "java/util/Arrays" (45 : Nat) "java/lang/StringBuilder") ∈ lw_all := lw_g (lw_at lw_m3 94 rfl) rfl
theorem q610 : (Jvm.Cond.methodLink "java/util/Arrays" (47 : Nat) ({ cls := "java/lang/StringBuilder", name := "<init>", desc := "()V" } : Jvm.MethodName)) ∈ lw_all := lw_g (lw_at lw_m3 95 rfl) rfl
theorem q611 : (Jvm.Cond.methodLink "java/util/Arrays" (54 : Nat) ({ cls := "java/lang/StringBuilder", name := "append", desc := "(I)Ljava/lang/StringBuilder;" } : Jvm.MethodName)) ∈ lw_all := lw_g (lw_at lw_m3 96 rfl) rfl
theorem q636 : (Jvm.Cond.stringRef "java/util/Arrays" (337 : Nat) " > ") ∈ lw_tbl := lw_at lw_m3 121 rfl
theorem q637 : (Jvm.Cond.methodLink "java/util/Arrays" (50 : Nat) ({ cls := "java/lang/StringBuilder", name := "append", desc := "(Ljava/lang/String;)Ljava/lang/StringBuilder;" } : Jvm.MethodName)) ∈ lw_all := lw_g (lw_at lw_m3 122 rfl) rfl
theorem q638 : (Jvm.Cond.methodLink "java/util/Arrays" (61 : Nat) ({ cls := "java/lang/StringBuilder", name := "toString", desc := "()Ljava/lang/String;" } : Jvm.MethodName)) ∈ lw_all := lw_g (lw_at lw_m3 123 rfl) rfl
theorem q639 : (Jvm.Cond.methodLink "java/util/Arrays" (65 : Nat) ({ cls := "java/lang/IllegalArgumentException", name := "<init>", desc := "(Ljava/lang/String;)V" } : Jvm.MethodName)) ∈ lw_all := lw_g (lw_at lw_m3 124 rfl) rfl
theorem q762 : (Jvm.Cond.static ({ cls := "java/util/Arrays", name := "copyOf", desc := "([Ljava/lang/Object;I)[Ljava/lang/Object;" } : Jvm.MethodName)) ∈ lw_all := lw_g (lw_at lw_m4 7 rfl) rfl
theorem q763 : (Jvm.Cond.code ({ cls := "java/util/Arrays", name := "copyOf", desc := "([Ljava/lang/Object;I)[Ljava/lang/Object;" } : Jvm.MethodName) prog_46_method_119_code (2 : Nat) (Option.some (Jvm.ClassFile.FieldType.array (Jvm.ClassFile.FieldType.object "java/lang/Object")))) ∈ lw_all := lw_g (lw_at lw_m4 8 rfl) rfl
theorem q764 : (Jvm.Cond.methodLink "java/util/Arrays" (86 : Nat) ({ cls := "java/lang/Object", name := "getClass", desc := "()Ljava/lang/Class;" } : Jvm.MethodName)) ∈ lw_all := lw_g (lw_at lw_m4 9 rfl) rfl
theorem q790 : (Jvm.Cond.methodLink "java/util/Arrays" (300 : Nat) ({ cls := "java/util/Arrays", name := "copyOf", desc := "([Ljava/lang/Object;ILjava/lang/Class;)[Ljava/lang/Object;" } : Jvm.MethodName)) ∈ lw_all := lw_g (lw_at lw_m4 35 rfl) rfl
theorem q791 : (Jvm.Cond.static ({ cls := "java/util/Arrays", name := "copyOf", desc := "([Ljava/lang/Object;ILjava/lang/Class;)[Ljava/lang/Object;" } : Jvm.MethodName)) ∈ lw_all := lw_g (lw_at lw_m4 36 rfl) rfl
theorem q792 : (Jvm.Cond.code ({ cls := "java/util/Arrays", name := "copyOf", desc := "([Ljava/lang/Object;ILjava/lang/Class;)[Ljava/lang/Object;" } : Jvm.MethodName) prog_46_method_120_code (4 : Nat) (Option.some (Jvm.ClassFile.FieldType.array (Jvm.ClassFile.FieldType.object "java/lang/Object")))) ∈ lw_all := lw_g (lw_at lw_m4 37 rfl) rfl
theorem q793 : (Jvm.Cond.classLink "java/util/Arrays" (110 : Nat) "[Ljava/lang/Object;") ∈ lw_all := lw_g (lw_at lw_m4 38 rfl) rfl
theorem q795 : (Jvm.Cond.classLink "java/util/Arrays" (2 : Nat) "java/lang/Object") ∈ lw_all := lw_g (lw_at lw_m4 40 rfl) rfl

/-! jdk/internal/util/Preconditions -/
set_option maxRecDepth 100000
def RJ17 : String := "jdk/internal/util/Preconditions"
abbrev cJ17_checkIndex : ByteArray := prog_66_method_11_code
def yJ17_checkIndex : MethodName := ⟨RJ17, "checkIndex", "(IILjava/util/function/BiFunction;)I"⟩
def dkwJ17_checkIndex_0 : List UInt8 := [26, 155, 0, 8, 26, 27, 161, 0, 10, 44, 26, 27, 184, 0, 95, 191, 26, 172]
abbrev dktJ17_checkIndex_0 : List UInt8 := dkwJ17_checkIndex_0 ++ []
theorem dksJ17_checkIndex_0 : cJ17_checkIndex.data.toList.drop 0 = dktJ17_checkIndex_0 := by decide +kernel
theorem dJ17_checkIndex_0 : decode cJ17_checkIndex 0 = .ok (.iload_n 0, 1) := dk_26 (dk_at dksJ17_checkIndex_0 0 rfl rfl)
theorem dJ17_checkIndex_1 : decode cJ17_checkIndex 1 = .ok (.ifCond .lt 8, 3) := dk_155 0 8 (dk_at dksJ17_checkIndex_0 1 rfl rfl)
theorem dJ17_checkIndex_4 : decode cJ17_checkIndex 4 = .ok (.iload_n 0, 1) := dk_26 (dk_at dksJ17_checkIndex_0 4 rfl rfl)
theorem dJ17_checkIndex_5 : decode cJ17_checkIndex 5 = .ok (.iload_n 1, 1) := dk_27 (dk_at dksJ17_checkIndex_0 5 rfl rfl)
theorem dJ17_checkIndex_6 : decode cJ17_checkIndex 6 = .ok (.if_icmp .lt 10, 3) := dk_161 0 10 (dk_at dksJ17_checkIndex_0 6 rfl rfl)
theorem dJ17_checkIndex_9 : decode cJ17_checkIndex 9 = .ok (.aload_n 2, 1) := dk_44 (dk_at dksJ17_checkIndex_0 9 rfl rfl)
theorem dJ17_checkIndex_10 : decode cJ17_checkIndex 10 = .ok (.iload_n 0, 1) := dk_26 (dk_at dksJ17_checkIndex_0 10 rfl rfl)
theorem dJ17_checkIndex_11 : decode cJ17_checkIndex 11 = .ok (.iload_n 1, 1) := dk_27 (dk_at dksJ17_checkIndex_0 11 rfl rfl)
theorem dJ17_checkIndex_12 : decode cJ17_checkIndex 12 = .ok (.invokestatic 95, 3) := dk_184 0 95 (dk_at dksJ17_checkIndex_0 12 rfl rfl)
theorem dJ17_checkIndex_15 : decode cJ17_checkIndex 15 = .ok (.athrow, 1) := dk_191 (dk_at dksJ17_checkIndex_0 15 rfl rfl)
theorem dJ17_checkIndex_16 : decode cJ17_checkIndex 16 = .ok (.iload_n 0, 1) := dk_26 (dk_at dksJ17_checkIndex_0 16 rfl rfl)
theorem dJ17_checkIndex_17 : decode cJ17_checkIndex 17 = .ok (.ireturn, 1) := dk_172 (dk_at dksJ17_checkIndex_0 17 rfl rfl)
abbrev cJ17_checkFromToIndex : ByteArray := prog_66_method_12_code
def yJ17_checkFromToIndex : MethodName := ⟨RJ17, "checkFromToIndex", "(IIILjava/util/function/BiFunction;)I"⟩
def dkwJ17_checkFromToIndex_0 : List UInt8 := [26, 155, 0, 13, 26, 27, 163, 0, 8, 27, 28, 164, 0, 11, 45, 26, 27, 28, 184, 0, 99, 191, 26, 172]
abbrev dktJ17_checkFromToIndex_0 : List UInt8 := dkwJ17_checkFromToIndex_0 ++ []
theorem dksJ17_checkFromToIndex_0 : cJ17_checkFromToIndex.data.toList.drop 0 = dktJ17_checkFromToIndex_0 := by decide +kernel
theorem dJ17_checkFromToIndex_0 : decode cJ17_checkFromToIndex 0 = .ok (.iload_n 0, 1) := dk_26 (dk_at dksJ17_checkFromToIndex_0 0 rfl rfl)
theorem dJ17_checkFromToIndex_1 : decode cJ17_checkFromToIndex 1 = .ok (.ifCond .lt 13, 3) := dk_155 0 13 (dk_at dksJ17_checkFromToIndex_0 1 rfl rfl)
theorem dJ17_checkFromToIndex_4 : decode cJ17_checkFromToIndex 4 = .ok (.iload_n 0, 1) := dk_26 (dk_at dksJ17_checkFromToIndex_0 4 rfl rfl)
theorem dJ17_checkFromToIndex_5 : decode cJ17_checkFromToIndex 5 = .ok (.iload_n 1, 1) := dk_27 (dk_at dksJ17_checkFromToIndex_0 5 rfl rfl)
theorem dJ17_checkFromToIndex_6 : decode cJ17_checkFromToIndex 6 = .ok (.if_icmp .gt 8, 3) := dk_163 0 8 (dk_at dksJ17_checkFromToIndex_0 6 rfl rfl)
theorem dJ17_checkFromToIndex_9 : decode cJ17_checkFromToIndex 9 = .ok (.iload_n 1, 1) := dk_27 (dk_at dksJ17_checkFromToIndex_0 9 rfl rfl)
theorem dJ17_checkFromToIndex_10 : decode cJ17_checkFromToIndex 10 = .ok (.iload_n 2, 1) := dk_28 (dk_at dksJ17_checkFromToIndex_0 10 rfl rfl)
theorem dJ17_checkFromToIndex_11 : decode cJ17_checkFromToIndex 11 = .ok (.if_icmp .le 11, 3) := dk_164 0 11 (dk_at dksJ17_checkFromToIndex_0 11 rfl rfl)
theorem dJ17_checkFromToIndex_14 : decode cJ17_checkFromToIndex 14 = .ok (.aload_n 3, 1) := dk_45 (dk_at dksJ17_checkFromToIndex_0 14 rfl rfl)
theorem dJ17_checkFromToIndex_15 : decode cJ17_checkFromToIndex 15 = .ok (.iload_n 0, 1) := dk_26 (dk_at dksJ17_checkFromToIndex_0 15 rfl rfl)
theorem dJ17_checkFromToIndex_16 : decode cJ17_checkFromToIndex 16 = .ok (.iload_n 1, 1) := dk_27 (dk_at dksJ17_checkFromToIndex_0 16 rfl rfl)
theorem dJ17_checkFromToIndex_17 : decode cJ17_checkFromToIndex 17 = .ok (.iload_n 2, 1) := dk_28 (dk_at dksJ17_checkFromToIndex_0 17 rfl rfl)
theorem dJ17_checkFromToIndex_18 : decode cJ17_checkFromToIndex 18 = .ok (.invokestatic 99, 3) := dk_184 0 99 (dk_at dksJ17_checkFromToIndex_0 18 rfl rfl)
theorem dJ17_checkFromToIndex_21 : decode cJ17_checkFromToIndex 21 = .ok (.athrow, 1) := dk_191 (dk_at dksJ17_checkFromToIndex_0 21 rfl rfl)
theorem dJ17_checkFromToIndex_22 : decode cJ17_checkFromToIndex 22 = .ok (.iload_n 0, 1) := dk_26 (dk_at dksJ17_checkFromToIndex_0 22 rfl rfl)
theorem dJ17_checkFromToIndex_23 : decode cJ17_checkFromToIndex 23 = .ok (.ireturn, 1) := dk_172 (dk_at dksJ17_checkFromToIndex_0 23 rfl rfl)
theorem q60 : (Jvm.Cond.initialized "jdk/internal/util/Preconditions") ∈ lw_all := lw_g (lw_at lw_m1 25 rfl) rfl
theorem q245 : (Jvm.Cond.static ({ cls := "jdk/internal/util/Preconditions", name := "checkIndex", desc := "(IILjava/util/function/BiFunction;)I" } : Jvm.MethodName)) ∈ lw_all := lw_g (lw_at lw_m1 210 rfl) rfl
theorem q246 : (Jvm.Cond.code ({ cls := "jdk/internal/util/Preconditions", name := "checkIndex", desc := "(IILjava/util/function/BiFunction;)I" } : Jvm.MethodName) prog_66_method_11_code (3 : Nat) (Option.some Jvm.ClassFile.FieldType.int)) ∈ lw_all := lw_g (lw_at lw_m1 211 rfl) rfl
theorem q504 : (Jvm.Cond.laysStatic "jdk/internal/util/Preconditions" "SIOOBE_FORMATTER" "Ljava/util/function/BiFunction;") ∈ lw_tbl := lw_at lw_m2 229 rfl
theorem q506 : (Jvm.Cond.static ({ cls := "jdk/internal/util/Preconditions", name := "checkFromToIndex", desc := "(IIILjava/util/function/BiFunction;)I" } : Jvm.MethodName)) ∈ lw_all := lw_g (lw_at lw_m2 231 rfl) rfl
theorem q507 : (Jvm.Cond.code ({ cls := "jdk/internal/util/Preconditions", name := "checkFromToIndex", desc := "(IIILjava/util/function/BiFunction;)I" } : Jvm.MethodName) prog_66_method_12_code (4 : Nat) (Option.some Jvm.ClassFile.FieldType.int)) ∈ lw_all := lw_g (lw_at lw_m2 232 rfl) rfl
theorem q544 : (Jvm.Cond.static ({ cls := "jdk/internal/util/Preconditions", name := "checkFromIndexSize", desc := "(IIILjava/util/function/BiFunction;)I" } : Jvm.MethodName)) ∈ lw_all := lw_g (lw_at lw_m3 29 rfl) rfl
theorem q545 : (Jvm.Cond.code ({ cls := "jdk/internal/util/Preconditions", name := "checkFromIndexSize", desc := "(IIILjava/util/function/BiFunction;)I" } : Jvm.MethodName) prog_66_method_13_code (4 : Nat) (Option.some Jvm.ClassFile.FieldType.int)) ∈ lw_all := lw_g (lw_at lw_m3 30 rfl) rfl

/-! java/lang/StringLatin1 -/
set_option maxRecDepth 100000
def RJ18 : String := "java/lang/StringLatin1"
abbrev cJ18_canEncode : ByteArray := prog_34_method_3_code
def yJ18_canEncode : MethodName := ⟨RJ18, "canEncode", "(C)Z"⟩
def dkwJ18_canEncode_0 : List UInt8 := [26, 17, 0, 255, 163, 0, 7, 4, 167, 0, 4, 3, 172]
abbrev dktJ18_canEncode_0 : List UInt8 := dkwJ18_canEncode_0 ++ []
theorem dksJ18_canEncode_0 : cJ18_canEncode.data.toList.drop 0 = dktJ18_canEncode_0 := by decide +kernel
theorem dJ18_canEncode_0 : decode cJ18_canEncode 0 = .ok (.iload_n 0, 1) := dk_26 (dk_at dksJ18_canEncode_0 0 rfl rfl)
theorem dJ18_canEncode_1 : decode cJ18_canEncode 1 = .ok (.sipush 255, 3) := dk_17 0 255 (dk_at dksJ18_canEncode_0 1 rfl rfl)
theorem dJ18_canEncode_4 : decode cJ18_canEncode 4 = .ok (.if_icmp .gt 7, 3) := dk_163 0 7 (dk_at dksJ18_canEncode_0 4 rfl rfl)
theorem dJ18_canEncode_7 : decode cJ18_canEncode 7 = .ok (.iconst 1, 1) := dk_4 (dk_at dksJ18_canEncode_0 7 rfl rfl)
theorem dJ18_canEncode_8 : decode cJ18_canEncode 8 = .ok (.goto 4, 3) := dk_167 0 4 (dk_at dksJ18_canEncode_0 8 rfl rfl)
theorem dJ18_canEncode_11 : decode cJ18_canEncode 11 = .ok (.iconst 0, 1) := dk_3 (dk_at dksJ18_canEncode_0 11 rfl rfl)
theorem dJ18_canEncode_12 : decode cJ18_canEncode 12 = .ok (.ireturn, 1) := dk_172 (dk_at dksJ18_canEncode_0 12 rfl rfl)
abbrev cJ18_compareTo : ByteArray := prog_34_method_14_code
def yJ18_compareTo : MethodName := ⟨RJ18, "compareTo", "([B[B)I"⟩
def dkwJ18_compareTo_0 : List UInt8 := [42, 190, 61, 43, 190, 62, 42, 43, 28, 29, 184, 0, 34, 172]
abbrev dktJ18_compareTo_0 : List UInt8 := dkwJ18_compareTo_0 ++ []
theorem dksJ18_compareTo_0 : cJ18_compareTo.data.toList.drop 0 = dktJ18_compareTo_0 := by decide +kernel
theorem dJ18_compareTo_0 : decode cJ18_compareTo 0 = .ok (.aload_n 0, 1) := dk_42 (dk_at dksJ18_compareTo_0 0 rfl rfl)
theorem dJ18_compareTo_1 : decode cJ18_compareTo 1 = .ok (.arraylength, 1) := dk_190 (dk_at dksJ18_compareTo_0 1 rfl rfl)
theorem dJ18_compareTo_2 : decode cJ18_compareTo 2 = .ok (.istore_n 2, 1) := dk_61 (dk_at dksJ18_compareTo_0 2 rfl rfl)
theorem dJ18_compareTo_3 : decode cJ18_compareTo 3 = .ok (.aload_n 1, 1) := dk_43 (dk_at dksJ18_compareTo_0 3 rfl rfl)
theorem dJ18_compareTo_4 : decode cJ18_compareTo 4 = .ok (.arraylength, 1) := dk_190 (dk_at dksJ18_compareTo_0 4 rfl rfl)
theorem dJ18_compareTo_5 : decode cJ18_compareTo 5 = .ok (.istore_n 3, 1) := dk_62 (dk_at dksJ18_compareTo_0 5 rfl rfl)
theorem dJ18_compareTo_6 : decode cJ18_compareTo 6 = .ok (.aload_n 0, 1) := dk_42 (dk_at dksJ18_compareTo_0 6 rfl rfl)
theorem dJ18_compareTo_7 : decode cJ18_compareTo 7 = .ok (.aload_n 1, 1) := dk_43 (dk_at dksJ18_compareTo_0 7 rfl rfl)
theorem dJ18_compareTo_8 : decode cJ18_compareTo 8 = .ok (.iload_n 2, 1) := dk_28 (dk_at dksJ18_compareTo_0 8 rfl rfl)
theorem dJ18_compareTo_9 : decode cJ18_compareTo 9 = .ok (.iload_n 3, 1) := dk_29 (dk_at dksJ18_compareTo_0 9 rfl rfl)
theorem dJ18_compareTo_10 : decode cJ18_compareTo 10 = .ok (.invokestatic 34, 3) := dk_184 0 34 (dk_at dksJ18_compareTo_0 10 rfl rfl)
theorem dJ18_compareTo_13 : decode cJ18_compareTo 13 = .ok (.ireturn, 1) := dk_172 (dk_at dksJ18_compareTo_0 13 rfl rfl)
abbrev cJ18_compareTo_2 : ByteArray := prog_34_method_15_code
def yJ18_compareTo_2 : MethodName := ⟨RJ18, "compareTo", "([B[BII)I"⟩
def dkwJ18_compareTo_2_1 : List UInt8 := [167, 0, 16, 42, 21, 5, 184, 0, 50, 43, 21, 5, 184, 0, 50, 100, 172]
abbrev dktJ18_compareTo_2_1 : List UInt8 := dkwJ18_compareTo_2_1 ++ []
def dkwJ18_compareTo_2_0 : List UInt8 := [28, 29, 184, 0, 38, 54, 4, 42, 43, 21, 4, 184, 0, 44, 54, 5, 21, 5, 156, 0, 9, 28, 29, 100]
abbrev dktJ18_compareTo_2_0 : List UInt8 := dkwJ18_compareTo_2_0 ++ dktJ18_compareTo_2_1
theorem dksJ18_compareTo_2_0 : cJ18_compareTo_2.data.toList.drop 0 = dktJ18_compareTo_2_0 := by decide +kernel
theorem dksJ18_compareTo_2_1 : cJ18_compareTo_2.data.toList.drop 24 = dktJ18_compareTo_2_1 := dk_seg dksJ18_compareTo_2_0 24 rfl rfl
theorem dJ18_compareTo_2_0 : decode cJ18_compareTo_2 0 = .ok (.iload_n 2, 1) := dk_28 (dk_at dksJ18_compareTo_2_0 0 rfl rfl)
theorem dJ18_compareTo_2_1 : decode cJ18_compareTo_2 1 = .ok (.iload_n 3, 1) := dk_29 (dk_at dksJ18_compareTo_2_0 1 rfl rfl)
theorem dJ18_compareTo_2_2 : decode cJ18_compareTo_2 2 = .ok (.invokestatic 38, 3) := dk_184 0 38 (dk_at dksJ18_compareTo_2_0 2 rfl rfl)
theorem dJ18_compareTo_2_5 : decode cJ18_compareTo_2 5 = .ok (.istore 4, 2) := dk_54 4 (dk_at dksJ18_compareTo_2_0 5 rfl rfl)
theorem dJ18_compareTo_2_7 : decode cJ18_compareTo_2 7 = .ok (.aload_n 0, 1) := dk_42 (dk_at dksJ18_compareTo_2_0 7 rfl rfl)
theorem dJ18_compareTo_2_8 : decode cJ18_compareTo_2 8 = .ok (.aload_n 1, 1) := dk_43 (dk_at dksJ18_compareTo_2_0 8 rfl rfl)
theorem dJ18_compareTo_2_9 : decode cJ18_compareTo_2 9 = .ok (.iload 4, 2) := dk_21 4 (dk_at dksJ18_compareTo_2_0 9 rfl rfl)
theorem dJ18_compareTo_2_11 : decode cJ18_compareTo_2 11 = .ok (.invokestatic 44, 3) := dk_184 0 44 (dk_at dksJ18_compareTo_2_0 11 rfl rfl)
theorem dJ18_compareTo_2_14 : decode cJ18_compareTo_2 14 = .ok (.istore 5, 2) := dk_54 5 (dk_at dksJ18_compareTo_2_0 14 rfl rfl)
theorem dJ18_compareTo_2_16 : decode cJ18_compareTo_2 16 = .ok (.iload 5, 2) := dk_21 5 (dk_at dksJ18_compareTo_2_0 16 rfl rfl)
theorem dJ18_compareTo_2_18 : decode cJ18_compareTo_2 18 = .ok (.ifCond .ge 9, 3) := dk_156 0 9 (dk_at dksJ18_compareTo_2_0 18 rfl rfl)
theorem dJ18_compareTo_2_21 : decode cJ18_compareTo_2 21 = .ok (.iload_n 2, 1) := dk_28 (dk_at dksJ18_compareTo_2_0 21 rfl rfl)
theorem dJ18_compareTo_2_22 : decode cJ18_compareTo_2 22 = .ok (.iload_n 3, 1) := dk_29 (dk_at dksJ18_compareTo_2_0 22 rfl rfl)
theorem dJ18_compareTo_2_23 : decode cJ18_compareTo_2 23 = .ok (.isub, 1) := dk_100 (dk_at dksJ18_compareTo_2_0 23 rfl rfl)
theorem dJ18_compareTo_2_24 : decode cJ18_compareTo_2 24 = .ok (.goto 16, 3) := dk_167 0 16 (dk_at dksJ18_compareTo_2_1 0 rfl rfl)
theorem dJ18_compareTo_2_27 : decode cJ18_compareTo_2 27 = .ok (.aload_n 0, 1) := dk_42 (dk_at dksJ18_compareTo_2_1 3 rfl rfl)
theorem dJ18_compareTo_2_28 : decode cJ18_compareTo_2 28 = .ok (.iload 5, 2) := dk_21 5 (dk_at dksJ18_compareTo_2_1 4 rfl rfl)
theorem dJ18_compareTo_2_30 : decode cJ18_compareTo_2 30 = .ok (.invokestatic 50, 3) := dk_184 0 50 (dk_at dksJ18_compareTo_2_1 6 rfl rfl)
theorem dJ18_compareTo_2_33 : decode cJ18_compareTo_2 33 = .ok (.aload_n 1, 1) := dk_43 (dk_at dksJ18_compareTo_2_1 9 rfl rfl)
theorem dJ18_compareTo_2_34 : decode cJ18_compareTo_2 34 = .ok (.iload 5, 2) := dk_21 5 (dk_at dksJ18_compareTo_2_1 10 rfl rfl)
theorem dJ18_compareTo_2_36 : decode cJ18_compareTo_2 36 = .ok (.invokestatic 50, 3) := dk_184 0 50 (dk_at dksJ18_compareTo_2_1 12 rfl rfl)
theorem dJ18_compareTo_2_39 : decode cJ18_compareTo_2 39 = .ok (.isub, 1) := dk_100 (dk_at dksJ18_compareTo_2_1 15 rfl rfl)
theorem dJ18_compareTo_2_40 : decode cJ18_compareTo_2 40 = .ok (.ireturn, 1) := dk_172 (dk_at dksJ18_compareTo_2_1 16 rfl rfl)
abbrev cJ18_getChar : ByteArray := prog_34_method_44_code
def yJ18_getChar : MethodName := ⟨RJ18, "getChar", "([BI)C"⟩
def dkwJ18_getChar_0 : List UInt8 := [42, 27, 51, 17, 0, 255, 126, 146, 172]
abbrev dktJ18_getChar_0 : List UInt8 := dkwJ18_getChar_0 ++ []
theorem dksJ18_getChar_0 : cJ18_getChar.data.toList.drop 0 = dktJ18_getChar_0 := by decide +kernel
theorem dJ18_getChar_0 : decode cJ18_getChar 0 = .ok (.aload_n 0, 1) := dk_42 (dk_at dksJ18_getChar_0 0 rfl rfl)
theorem dJ18_getChar_1 : decode cJ18_getChar 1 = .ok (.iload_n 1, 1) := dk_27 (dk_at dksJ18_getChar_0 1 rfl rfl)
theorem dJ18_getChar_2 : decode cJ18_getChar 2 = .ok (.baload, 1) := dk_51 (dk_at dksJ18_getChar_0 2 rfl rfl)
theorem dJ18_getChar_3 : decode cJ18_getChar 3 = .ok (.sipush 255, 3) := dk_17 0 255 (dk_at dksJ18_getChar_0 3 rfl rfl)
theorem dJ18_getChar_6 : decode cJ18_getChar 6 = .ok (.iand, 1) := dk_126 (dk_at dksJ18_getChar_0 6 rfl rfl)
theorem dJ18_getChar_7 : decode cJ18_getChar 7 = .ok (.i2c, 1) := dk_146 (dk_at dksJ18_getChar_0 7 rfl rfl)
theorem dJ18_getChar_8 : decode cJ18_getChar 8 = .ok (.ireturn, 1) := dk_172 (dk_at dksJ18_getChar_0 8 rfl rfl)
abbrev cJ18_length : ByteArray := prog_34_method_5_code
def yJ18_length : MethodName := ⟨RJ18, "length", "([B)I"⟩
theorem dJ18_length_0 : decode cJ18_length 0 = .ok (.aload_n 0, 1) := by decide +kernel
theorem dJ18_length_1 : decode cJ18_length 1 = .ok (.arraylength, 1) := by decide +kernel
theorem dJ18_length_2 : decode cJ18_length 2 = .ok (.ireturn, 1) := by decide +kernel
abbrev cJ18_charAt : ByteArray := prog_34_method_2_code
def yJ18_charAt : MethodName := ⟨RJ18, "charAt", "([BI)C"⟩
def dkwJ18_charAt_0 : List UInt8 := [27, 42, 190, 184, 0, 9, 42, 27, 51, 17, 0, 255, 126, 146, 172]
abbrev dktJ18_charAt_0 : List UInt8 := dkwJ18_charAt_0 ++ []
theorem dksJ18_charAt_0 : cJ18_charAt.data.toList.drop 0 = dktJ18_charAt_0 := by decide +kernel
theorem dJ18_charAt_0 : decode cJ18_charAt 0 = .ok (.iload_n 1, 1) := dk_27 (dk_at dksJ18_charAt_0 0 rfl rfl)
theorem dJ18_charAt_1 : decode cJ18_charAt 1 = .ok (.aload_n 0, 1) := dk_42 (dk_at dksJ18_charAt_0 1 rfl rfl)
theorem dJ18_charAt_2 : decode cJ18_charAt 2 = .ok (.arraylength, 1) := dk_190 (dk_at dksJ18_charAt_0 2 rfl rfl)
theorem dJ18_charAt_3 : decode cJ18_charAt 3 = .ok (.invokestatic 9, 3) := dk_184 0 9 (dk_at dksJ18_charAt_0 3 rfl rfl)
theorem dJ18_charAt_6 : decode cJ18_charAt 6 = .ok (.aload_n 0, 1) := dk_42 (dk_at dksJ18_charAt_0 6 rfl rfl)
theorem dJ18_charAt_7 : decode cJ18_charAt 7 = .ok (.iload_n 1, 1) := dk_27 (dk_at dksJ18_charAt_0 7 rfl rfl)
theorem dJ18_charAt_8 : decode cJ18_charAt 8 = .ok (.baload, 1) := dk_51 (dk_at dksJ18_charAt_0 8 rfl rfl)
theorem dJ18_charAt_9 : decode cJ18_charAt 9 = .ok (.sipush 255, 3) := dk_17 0 255 (dk_at dksJ18_charAt_0 9 rfl rfl)
theorem dJ18_charAt_12 : decode cJ18_charAt 12 = .ok (.iand, 1) := dk_126 (dk_at dksJ18_charAt_0 12 rfl rfl)
theorem dJ18_charAt_13 : decode cJ18_charAt 13 = .ok (.i2c, 1) := dk_146 (dk_at dksJ18_charAt_0 13 rfl rfl)
theorem dJ18_charAt_14 : decode cJ18_charAt 14 = .ok (.ireturn, 1) := dk_172 (dk_at dksJ18_charAt_0 14 rfl rfl)
theorem q61 : (Jvm.Cond.initialized "java/lang/StringLatin1") ∈ lw_all := lw_g (lw_at lw_m1 26 rfl) rfl
theorem q532 : (Jvm.Cond.static ({ cls := "java/lang/StringLatin1", name := "inflate", desc := "([BI[BII)V" } : Jvm.MethodName)) ∈ lw_all := lw_g (lw_at lw_m3 17 rfl) rfl
theorem q533 : (Jvm.Cond.code ({ cls := "java/lang/StringLatin1", name := "inflate", desc := "([BI[BII)V" } : Jvm.MethodName) prog_34_method_50_code (5 : Nat) (Option.none : Option Jvm.ClassFile.FieldType)) ∈ lw_all := lw_g (lw_at lw_m3 18 rfl) rfl
theorem q534 : (Jvm.Cond.methodLink "java/lang/StringLatin1" (240 : Nat) ({ cls := "java/lang/StringUTF16", name := "inflate", desc := "([BI[BII)V" } : Jvm.MethodName)) ∈ lw_all := lw_g (lw_at lw_m3 19 rfl) rfl
theorem q560 : (Jvm.Cond.static ({ cls := "java/lang/StringLatin1", name := "canEncode", desc := "(C)Z" } : Jvm.MethodName)) ∈ lw_all := lw_g (lw_at lw_m3 45 rfl) rfl
theorem q561 : (Jvm.Cond.code ({ cls := "java/lang/StringLatin1", name := "canEncode", desc := "(C)Z" } : Jvm.MethodName) prog_34_method_3_code (1 : Nat) (Option.some Jvm.ClassFile.FieldType.boolean)) ∈ lw_all := lw_g (lw_at lw_m3 46 rfl) rfl
theorem q879 : (Jvm.Cond.static ({ cls := "java/lang/StringLatin1", name := "compareTo", desc := "([B[B)I" } : Jvm.MethodName)) ∈ lw_all := lw_g (lw_at lw_m4 124 rfl) rfl
theorem q880 : (Jvm.Cond.code ({ cls := "java/lang/StringLatin1", name := "compareTo", desc := "([B[B)I" } : Jvm.MethodName) prog_34_method_14_code (4 : Nat) (Option.some Jvm.ClassFile.FieldType.int)) ∈ lw_all := lw_g (lw_at lw_m4 125 rfl) rfl
theorem q881 : (Jvm.Cond.methodLink "java/lang/StringLatin1" (34 : Nat) ({ cls := "java/lang/StringLatin1", name := "compareTo", desc := "([B[BII)I" } : Jvm.MethodName)) ∈ lw_all := lw_g (lw_at lw_m4 126 rfl) rfl
theorem q882 : (Jvm.Cond.static ({ cls := "java/lang/StringLatin1", name := "compareTo", desc := "([B[BII)I" } : Jvm.MethodName)) ∈ lw_all := lw_g (lw_at lw_m4 127 rfl) rfl
theorem q883 : (Jvm.Cond.code ({ cls := "java/lang/StringLatin1", name := "compareTo", desc := "([B[BII)I" } : Jvm.MethodName) prog_34_method_15_code (6 : Nat) (Option.some Jvm.ClassFile.FieldType.int)) ∈ lw_all := lw_g (lw_at lw_m4 128 rfl) rfl
theorem q884 : (Jvm.Cond.methodLink "java/lang/StringLatin1" (38 : Nat) ({ cls := "java/lang/Math", name := "min", desc := "(II)I" } : Jvm.MethodName)) ∈ lw_all := lw_g (lw_at lw_m4 129 rfl) rfl
theorem q885 : (Jvm.Cond.methodLink "java/lang/StringLatin1" (44 : Nat) ({ cls := "jdk/internal/util/ArraysSupport", name := "mismatch", desc := "([B[BI)I" } : Jvm.MethodName)) ∈ lw_all := lw_g (lw_at lw_m4 130 rfl) rfl
theorem q989 : (Jvm.Cond.methodLink "java/lang/StringLatin1" (50 : Nat) ({ cls := "java/lang/StringLatin1", name := "getChar", desc := "([BI)C" } : Jvm.MethodName)) ∈ lw_all := lw_g (lw_at lw_m4 234 rfl) rfl
theorem q990 : (Jvm.Cond.static ({ cls := "java/lang/StringLatin1", name := "getChar", desc := "([BI)C" } : Jvm.MethodName)) ∈ lw_all := lw_g (lw_at lw_m4 235 rfl) rfl
theorem q991 : (Jvm.Cond.code ({ cls := "java/lang/StringLatin1", name := "getChar", desc := "([BI)C" } : Jvm.MethodName) prog_34_method_44_code (2 : Nat) (Option.some Jvm.ClassFile.FieldType.char)) ∈ lw_all := lw_g (lw_at lw_m4 236 rfl) rfl
theorem q1000 : (Jvm.Cond.static ({ cls := "java/lang/StringLatin1", name := "compareToUTF16", desc := "([B[B)I" } : Jvm.MethodName)) ∈ lw_all := lw_g (lw_at lw_m5 5 rfl) rfl
theorem q1001 : (Jvm.Cond.code ({ cls := "java/lang/StringLatin1", name := "compareToUTF16", desc := "([B[B)I" } : Jvm.MethodName) prog_34_method_16_code (4 : Nat) (Option.some Jvm.ClassFile.FieldType.int)) ∈ lw_all := lw_g (lw_at lw_m5 6 rfl) rfl
theorem q1002 : (Jvm.Cond.methodLink "java/lang/StringLatin1" (54 : Nat) ({ cls := "java/lang/StringLatin1", name := "length", desc := "([B)I" } : Jvm.MethodName)) ∈ lw_all := lw_g (lw_at lw_m5 7 rfl) rfl
theorem q1003 : (Jvm.Cond.static ({ cls := "java/lang/StringLatin1", name := "length", desc := "([B)I" } : Jvm.MethodName)) ∈ lw_all := lw_g (lw_at lw_m5 8 rfl) rfl
theorem q1004 : (Jvm.Cond.code ({ cls := "java/lang/StringLatin1", name := "length", desc := "([B)I" } : Jvm.MethodName) prog_34_method_5_code (1 : Nat) (Option.some Jvm.ClassFile.FieldType.int)) ∈ lw_all := lw_g (lw_at lw_m5 9 rfl) rfl
theorem q1005 : (Jvm.Cond.methodLink "java/lang/StringLatin1" (58 : Nat) ({ cls := "java/lang/StringUTF16", name := "length", desc := "([B)I" } : Jvm.MethodName)) ∈ lw_all := lw_g (lw_at lw_m5 10 rfl) rfl
theorem q1006 : (Jvm.Cond.methodLink "java/lang/StringLatin1" (59 : Nat) ({ cls := "java/lang/StringLatin1", name := "compareToUTF16Values", desc := "([B[BII)I" } : Jvm.MethodName)) ∈ lw_all := lw_g (lw_at lw_m5 11 rfl) rfl
theorem q1007 : (Jvm.Cond.static ({ cls := "java/lang/StringLatin1", name := "compareToUTF16Values", desc := "([B[BII)I" } : Jvm.MethodName)) ∈ lw_all := lw_g (lw_at lw_m5 12 rfl) rfl
theorem q1008 : (Jvm.Cond.code ({ cls := "java/lang/StringLatin1", name := "compareToUTF16Values", desc := "([B[BII)I" } : Jvm.MethodName) prog_34_method_18_code (8 : Nat) (Option.some Jvm.ClassFile.FieldType.int)) ∈ lw_all := lw_g (lw_at lw_m5 13 rfl) rfl
theorem q1009 : (Jvm.Cond.methodLink "java/lang/StringLatin1" (65 : Nat) ({ cls := "java/lang/StringUTF16", name := "getChar", desc := "([BI)C" } : Jvm.MethodName)) ∈ lw_all := lw_g (lw_at lw_m5 14 rfl) rfl
theorem q1055 : (Jvm.Cond.static ({ cls := "java/lang/StringLatin1", name := "compareToUTF16", desc := "([B[BII)I" } : Jvm.MethodName)) ∈ lw_all := lw_g (lw_at lw_m5 60 rfl) rfl
theorem q1056 : (Jvm.Cond.code ({ cls := "java/lang/StringLatin1", name := "compareToUTF16", desc := "([B[BII)I" } : Jvm.MethodName) prog_34_method_17_code (4 : Nat) (Option.some Jvm.ClassFile.FieldType.int)) ∈ lw_all := lw_g (lw_at lw_m5 61 rfl) rfl
theorem q1057 : (Jvm.Cond.methodLink "java/lang/StringLatin1" (62 : Nat) ({ cls := "java/lang/String", name := "checkOffset", desc := "(II)V" } : Jvm.MethodName)) ∈ lw_all := lw_g (lw_at lw_m5 62 rfl) rfl
theorem q1156 : (Jvm.Cond.static ({ cls := "java/lang/StringLatin1", name := "charAt", desc := "([BI)C" } : Jvm.MethodName)) ∈ lw_all := lw_g (lw_at lw_m5 161 rfl) rfl
theorem q1157 : (Jvm.Cond.code ({ cls := "java/lang/StringLatin1", name := "charAt", desc := "([BI)C" } : Jvm.MethodName) prog_34_method_2_code (2 : Nat) (Option.some Jvm.ClassFile.FieldType.char)) ∈ lw_all := lw_g (lw_at lw_m5 162 rfl) rfl
theorem q1158 : (Jvm.Cond.methodLink "java/lang/StringLatin1" (9 : Nat) ({ cls := "java/lang/String", name := "checkIndex", desc := "(II)V" } : Jvm.MethodName)) ∈ lw_all := lw_g (lw_at lw_m5 163 rfl) rfl

/-! java/util/AbstractCollection -/
set_option maxRecDepth 100000
def RJ2 : String := "java/util/AbstractCollection"
abbrev cJ2_init : ByteArray := prog_40_method_1_code
def yJ2_init : MethodName := ⟨RJ2, "<init>", "()V"⟩
theorem dJ2_init_0 : decode cJ2_init 0 = .ok (.aload_n 0, 1) := by decide +kernel
theorem dJ2_init_1 : decode cJ2_init 1 = .ok (.invokespecial 1, 3) := by decide +kernel
theorem dJ2_init_4 : decode cJ2_init 4 = .ok (.return_, 1) := by decide +kernel
abbrev cJ2_isEmpty : ByteArray := prog_40_method_4_code
def yJ2_isEmpty : MethodName := ⟨RJ2, "isEmpty", "()Z"⟩
def dkwJ2_isEmpty_0 : List UInt8 := [42, 182, 0, 7, 154, 0, 7, 4, 167, 0, 4, 3, 172]
abbrev dktJ2_isEmpty_0 : List UInt8 := dkwJ2_isEmpty_0 ++ []
theorem dksJ2_isEmpty_0 : cJ2_isEmpty.data.toList.drop 0 = dktJ2_isEmpty_0 := by decide +kernel
theorem dJ2_isEmpty_0 : decode cJ2_isEmpty 0 = .ok (.aload_n 0, 1) := dk_42 (dk_at dksJ2_isEmpty_0 0 rfl rfl)
theorem dJ2_isEmpty_1 : decode cJ2_isEmpty 1 = .ok (.invokevirtual 7, 3) := dk_182 0 7 (dk_at dksJ2_isEmpty_0 1 rfl rfl)
theorem dJ2_isEmpty_4 : decode cJ2_isEmpty 4 = .ok (.ifCond .ne 7, 3) := dk_154 0 7 (dk_at dksJ2_isEmpty_0 4 rfl rfl)
theorem dJ2_isEmpty_7 : decode cJ2_isEmpty 7 = .ok (.iconst 1, 1) := dk_4 (dk_at dksJ2_isEmpty_0 7 rfl rfl)
theorem dJ2_isEmpty_8 : decode cJ2_isEmpty 8 = .ok (.goto 4, 3) := dk_167 0 4 (dk_at dksJ2_isEmpty_0 8 rfl rfl)
theorem dJ2_isEmpty_11 : decode cJ2_isEmpty 11 = .ok (.iconst 0, 1) := dk_3 (dk_at dksJ2_isEmpty_0 11 rfl rfl)
theorem dJ2_isEmpty_12 : decode cJ2_isEmpty 12 = .ok (.ireturn, 1) := dk_172 (dk_at dksJ2_isEmpty_0 12 rfl rfl)
theorem q43 : (Jvm.Cond.initialized "java/util/AbstractCollection") ∈ lw_all := lw_g (lw_at lw_m1 8 rfl) rfl
theorem q156 : (Jvm.Cond.instanceMethod ({ cls := "java/util/AbstractCollection", name := "<init>", desc := "()V" } : Jvm.MethodName)) ∈ lw_all := lw_g (lw_at lw_m1 121 rfl) rfl
theorem q157 : (Jvm.Cond.code ({ cls := "java/util/AbstractCollection", name := "<init>", desc := "()V" } : Jvm.MethodName) prog_40_method_1_code (1 : Nat) (Option.none : Option Jvm.ClassFile.FieldType)) ∈ lw_all := lw_g (lw_at lw_m1 122 rfl) rfl
theorem q158 : (Jvm.Cond.methodLink "java/util/AbstractCollection" (1 : Nat) ({ cls := "java/lang/Object", name := "<init>", desc := "()V" } : Jvm.MethodName)) ∈ lw_all := lw_g (lw_at lw_m1 123 rfl) rfl
theorem q1409 : (Jvm.Cond.declares ({ cls := "java/util/AbstractCollection", name := "isEmpty", desc := "()Z" } : Jvm.MethodName)) ∈ lw_tbl := lw_at lw_m6 174 rfl
theorem q1411 : (Jvm.Cond.instanceMethod ({ cls := "java/util/AbstractCollection", name := "isEmpty", desc := "()Z" } : Jvm.MethodName)) ∈ lw_all := lw_g (lw_at lw_m6 176 rfl) rfl
theorem q1412 : (Jvm.Cond.code ({ cls := "java/util/AbstractCollection", name := "isEmpty", desc := "()Z" } : Jvm.MethodName) prog_40_method_4_code (1 : Nat) (Option.some Jvm.ClassFile.FieldType.boolean)) ∈ lw_all := lw_g (lw_at lw_m6 177 rfl) rfl
theorem q1413 : (Jvm.Cond.methodLink "java/util/AbstractCollection" (7 : Nat) ({ cls := "java/util/AbstractCollection", name := "size", desc := "()I" } : Jvm.MethodName)) ∈ lw_all := lw_g (lw_at lw_m6 178 rfl) rfl
theorem q1414 : (Jvm.Cond.declares ({ cls := "java/util/AbstractCollection", name := "size", desc := "()I" } : Jvm.MethodName)) ∈ lw_tbl := lw_at lw_m6 179 rfl
theorem q1415 : (Jvm.Cond.sameMethod "java/util/AbstractCollection" "java/util/AbstractCollection" "size" "()I") ∈ lw_all := lw_g (lw_at lw_m6 180 rfl) rfl

/-! java/lang/Record -/
set_option maxRecDepth 100000
def RJ22 : String := "java/lang/Record"
abbrev cJ22_init : ByteArray := prog_30_method_1_code
def yJ22_init : MethodName := ⟨RJ22, "<init>", "()V"⟩
theorem dJ22_init_0 : decode cJ22_init 0 = .ok (.aload_n 0, 1) := by decide +kernel
theorem dJ22_init_1 : decode cJ22_init 1 = .ok (.invokespecial 1, 3) := by decide +kernel
theorem dJ22_init_4 : decode cJ22_init 4 = .ok (.return_, 1) := by decide +kernel
theorem q66 : (Jvm.Cond.initialized "java/lang/Record") ∈ lw_all := lw_g (lw_at lw_m1 31 rfl) rfl
theorem q729 : (Jvm.Cond.instanceMethod ({ cls := "java/lang/Record", name := "<init>", desc := "()V" } : Jvm.MethodName)) ∈ lw_all := lw_g (lw_at lw_m3 214 rfl) rfl
theorem q730 : (Jvm.Cond.code ({ cls := "java/lang/Record", name := "<init>", desc := "()V" } : Jvm.MethodName) prog_30_method_1_code (1 : Nat) (Option.none : Option Jvm.ClassFile.FieldType)) ∈ lw_all := lw_g (lw_at lw_m3 215 rfl) rfl
theorem q731 : (Jvm.Cond.methodLink "java/lang/Record" (1 : Nat) ({ cls := "java/lang/Object", name := "<init>", desc := "()V" } : Jvm.MethodName)) ∈ lw_all := lw_g (lw_at lw_m3 216 rfl) rfl

/-! java/util/ArrayList$Itr -/
set_option maxRecDepth 100000
def RJ23 : String := "java/util/ArrayList$Itr"
def TJ23 : u_T := fun k => match k with
  | 0 => ("java/util/ArrayList$Itr", "cursor", "I", false)
  | 1 => ("java/util/ArrayList$Itr", "lastRet", "I", false)
  | 2 => ("java/util/ArrayList$Itr", "expectedModCount", "I", false)
  | _ => ("java/util/ArrayList$Itr", "this$0", "Ljava/util/ArrayList;", true)
def tyJ23 : Nat → FieldType := fun k => match k with
  | 0 => .int
  | 1 => .int
  | 2 => .int
  | _ => .object "java/util/ArrayList"
abbrev wsJ230 : List Cond := u_ws RJ23 TJ23 4
theorem nmJ23 : ∀ a, a < 4 → ∀ b, b < 4 → a ≠ b → (TJ23 a).2.1 ≠ (TJ23 b).2.1 := by decide +kernel
theorem tyJ23_ok : ∀ k, k < 4 → parseFieldDescriptor (TJ23 k).2.2.1 = some (tyJ23 k) := by decide +kernel
abbrev cJ23_init : ByteArray := prog_45_method_1_code
def yJ23_init : MethodName := ⟨RJ23, "<init>", "(Ljava/util/ArrayList;)V"⟩
def dkwJ23_init_1 : List UInt8 := [181, 0, 22, 177]
abbrev dktJ23_init_1 : List UInt8 := dkwJ23_init_1 ++ []
def dkwJ23_init_0 : List UInt8 := [42, 43, 181, 0, 1, 42, 183, 0, 7, 42, 2, 181, 0, 13, 42, 42, 180, 0, 1, 180, 0, 17]
abbrev dktJ23_init_0 : List UInt8 := dkwJ23_init_0 ++ dktJ23_init_1
theorem dksJ23_init_0 : cJ23_init.data.toList.drop 0 = dktJ23_init_0 := by decide +kernel
theorem dksJ23_init_1 : cJ23_init.data.toList.drop 22 = dktJ23_init_1 := dk_seg dksJ23_init_0 22 rfl rfl
theorem dJ23_init_0 : decode cJ23_init 0 = .ok (.aload_n 0, 1) := dk_42 (dk_at dksJ23_init_0 0 rfl rfl)
theorem dJ23_init_1 : decode cJ23_init 1 = .ok (.aload_n 1, 1) := dk_43 (dk_at dksJ23_init_0 1 rfl rfl)
theorem dJ23_init_2 : decode cJ23_init 2 = .ok (.putfield 1, 3) := dk_181 0 1 (dk_at dksJ23_init_0 2 rfl rfl)
theorem dJ23_init_5 : decode cJ23_init 5 = .ok (.aload_n 0, 1) := dk_42 (dk_at dksJ23_init_0 5 rfl rfl)
theorem dJ23_init_6 : decode cJ23_init 6 = .ok (.invokespecial 7, 3) := dk_183 0 7 (dk_at dksJ23_init_0 6 rfl rfl)
theorem dJ23_init_9 : decode cJ23_init 9 = .ok (.aload_n 0, 1) := dk_42 (dk_at dksJ23_init_0 9 rfl rfl)
theorem dJ23_init_10 : decode cJ23_init 10 = .ok (.iconst (-1), 1) := dk_2 (dk_at dksJ23_init_0 10 rfl rfl)
theorem dJ23_init_11 : decode cJ23_init 11 = .ok (.putfield 13, 3) := dk_181 0 13 (dk_at dksJ23_init_0 11 rfl rfl)
theorem dJ23_init_14 : decode cJ23_init 14 = .ok (.aload_n 0, 1) := dk_42 (dk_at dksJ23_init_0 14 rfl rfl)
theorem dJ23_init_15 : decode cJ23_init 15 = .ok (.aload_n 0, 1) := dk_42 (dk_at dksJ23_init_0 15 rfl rfl)
theorem dJ23_init_16 : decode cJ23_init 16 = .ok (.getfield 1, 3) := dk_180 0 1 (dk_at dksJ23_init_0 16 rfl rfl)
theorem dJ23_init_19 : decode cJ23_init 19 = .ok (.getfield 17, 3) := dk_180 0 17 (dk_at dksJ23_init_0 19 rfl rfl)
theorem dJ23_init_22 : decode cJ23_init 22 = .ok (.putfield 22, 3) := dk_181 0 22 (dk_at dksJ23_init_1 0 rfl rfl)
theorem dJ23_init_25 : decode cJ23_init 25 = .ok (.return_, 1) := dk_177 (dk_at dksJ23_init_1 3 rfl rfl)
abbrev cJ23_hasNext : ByteArray := prog_45_method_2_code
def yJ23_hasNext : MethodName := ⟨RJ23, "hasNext", "()Z"⟩
def dkwJ23_hasNext_0 : List UInt8 := [42, 180, 0, 25, 42, 180, 0, 1, 180, 0, 28, 159, 0, 7, 4, 167, 0, 4, 3, 172]
abbrev dktJ23_hasNext_0 : List UInt8 := dkwJ23_hasNext_0 ++ []
theorem dksJ23_hasNext_0 : cJ23_hasNext.data.toList.drop 0 = dktJ23_hasNext_0 := by decide +kernel
theorem dJ23_hasNext_0 : decode cJ23_hasNext 0 = .ok (.aload_n 0, 1) := dk_42 (dk_at dksJ23_hasNext_0 0 rfl rfl)
theorem dJ23_hasNext_1 : decode cJ23_hasNext 1 = .ok (.getfield 25, 3) := dk_180 0 25 (dk_at dksJ23_hasNext_0 1 rfl rfl)
theorem dJ23_hasNext_4 : decode cJ23_hasNext 4 = .ok (.aload_n 0, 1) := dk_42 (dk_at dksJ23_hasNext_0 4 rfl rfl)
theorem dJ23_hasNext_5 : decode cJ23_hasNext 5 = .ok (.getfield 1, 3) := dk_180 0 1 (dk_at dksJ23_hasNext_0 5 rfl rfl)
theorem dJ23_hasNext_8 : decode cJ23_hasNext 8 = .ok (.getfield 28, 3) := dk_180 0 28 (dk_at dksJ23_hasNext_0 8 rfl rfl)
theorem dJ23_hasNext_11 : decode cJ23_hasNext 11 = .ok (.if_icmp .eq 7, 3) := dk_159 0 7 (dk_at dksJ23_hasNext_0 11 rfl rfl)
theorem dJ23_hasNext_14 : decode cJ23_hasNext 14 = .ok (.iconst 1, 1) := dk_4 (dk_at dksJ23_hasNext_0 14 rfl rfl)
theorem dJ23_hasNext_15 : decode cJ23_hasNext 15 = .ok (.goto 4, 3) := dk_167 0 4 (dk_at dksJ23_hasNext_0 15 rfl rfl)
theorem dJ23_hasNext_18 : decode cJ23_hasNext 18 = .ok (.iconst 0, 1) := dk_3 (dk_at dksJ23_hasNext_0 18 rfl rfl)
theorem dJ23_hasNext_19 : decode cJ23_hasNext 19 = .ok (.ireturn, 1) := dk_172 (dk_at dksJ23_hasNext_0 19 rfl rfl)
abbrev cJ23_next : ByteArray := prog_45_method_3_code
def yJ23_next : MethodName := ⟨RJ23, "next", "()Ljava/lang/Object;"⟩
def dkwJ23_next_2 : List UInt8 := [183, 0, 43, 191, 42, 27, 4, 96, 181, 0, 25, 44, 42, 27, 90, 181, 0, 13, 50, 176]
abbrev dktJ23_next_2 : List UInt8 := dkwJ23_next_2 ++ []
def dkwJ23_next_1 : List UInt8 := [183, 0, 36, 191, 42, 180, 0, 1, 180, 0, 37, 77, 27, 44, 190, 161, 0, 11, 187, 0, 41, 89]
abbrev dktJ23_next_1 : List UInt8 := dkwJ23_next_1 ++ dktJ23_next_2
def dkwJ23_next_0 : List UInt8 := [42, 182, 0, 31, 42, 180, 0, 25, 60, 27, 42, 180, 0, 1, 180, 0, 28, 161, 0, 11, 187, 0, 34, 89]
abbrev dktJ23_next_0 : List UInt8 := dkwJ23_next_0 ++ dktJ23_next_1
theorem dksJ23_next_0 : cJ23_next.data.toList.drop 0 = dktJ23_next_0 := by decide +kernel
theorem dksJ23_next_1 : cJ23_next.data.toList.drop 24 = dktJ23_next_1 := dk_seg dksJ23_next_0 24 rfl rfl
theorem dksJ23_next_2 : cJ23_next.data.toList.drop 46 = dktJ23_next_2 := dk_seg dksJ23_next_1 22 rfl rfl
theorem dJ23_next_0 : decode cJ23_next 0 = .ok (.aload_n 0, 1) := dk_42 (dk_at dksJ23_next_0 0 rfl rfl)
theorem dJ23_next_1 : decode cJ23_next 1 = .ok (.invokevirtual 31, 3) := dk_182 0 31 (dk_at dksJ23_next_0 1 rfl rfl)
theorem dJ23_next_4 : decode cJ23_next 4 = .ok (.aload_n 0, 1) := dk_42 (dk_at dksJ23_next_0 4 rfl rfl)
theorem dJ23_next_5 : decode cJ23_next 5 = .ok (.getfield 25, 3) := dk_180 0 25 (dk_at dksJ23_next_0 5 rfl rfl)
theorem dJ23_next_8 : decode cJ23_next 8 = .ok (.istore_n 1, 1) := dk_60 (dk_at dksJ23_next_0 8 rfl rfl)
theorem dJ23_next_9 : decode cJ23_next 9 = .ok (.iload_n 1, 1) := dk_27 (dk_at dksJ23_next_0 9 rfl rfl)
theorem dJ23_next_10 : decode cJ23_next 10 = .ok (.aload_n 0, 1) := dk_42 (dk_at dksJ23_next_0 10 rfl rfl)
theorem dJ23_next_11 : decode cJ23_next 11 = .ok (.getfield 1, 3) := dk_180 0 1 (dk_at dksJ23_next_0 11 rfl rfl)
theorem dJ23_next_14 : decode cJ23_next 14 = .ok (.getfield 28, 3) := dk_180 0 28 (dk_at dksJ23_next_0 14 rfl rfl)
theorem dJ23_next_17 : decode cJ23_next 17 = .ok (.if_icmp .lt 11, 3) := dk_161 0 11 (dk_at dksJ23_next_0 17 rfl rfl)
theorem dJ23_next_20 : decode cJ23_next 20 = .ok (.new 34, 3) := dk_187 0 34 (dk_at dksJ23_next_0 20 rfl rfl)
theorem dJ23_next_23 : decode cJ23_next 23 = .ok (.dup, 1) := dk_89 (dk_at dksJ23_next_0 23 rfl rfl)
theorem dJ23_next_24 : decode cJ23_next 24 = .ok (.invokespecial 36, 3) := dk_183 0 36 (dk_at dksJ23_next_1 0 rfl rfl)
theorem dJ23_next_27 : decode cJ23_next 27 = .ok (.athrow, 1) := dk_191 (dk_at dksJ23_next_1 3 rfl rfl)
theorem dJ23_next_28 : decode cJ23_next 28 = .ok (.aload_n 0, 1) := dk_42 (dk_at dksJ23_next_1 4 rfl rfl)
theorem dJ23_next_29 : decode cJ23_next 29 = .ok (.getfield 1, 3) := dk_180 0 1 (dk_at dksJ23_next_1 5 rfl rfl)
theorem dJ23_next_32 : decode cJ23_next 32 = .ok (.getfield 37, 3) := dk_180 0 37 (dk_at dksJ23_next_1 8 rfl rfl)
theorem dJ23_next_35 : decode cJ23_next 35 = .ok (.astore_n 2, 1) := dk_77 (dk_at dksJ23_next_1 11 rfl rfl)
theorem dJ23_next_36 : decode cJ23_next 36 = .ok (.iload_n 1, 1) := dk_27 (dk_at dksJ23_next_1 12 rfl rfl)
theorem dJ23_next_37 : decode cJ23_next 37 = .ok (.aload_n 2, 1) := dk_44 (dk_at dksJ23_next_1 13 rfl rfl)
theorem dJ23_next_38 : decode cJ23_next 38 = .ok (.arraylength, 1) := dk_190 (dk_at dksJ23_next_1 14 rfl rfl)
theorem dJ23_next_39 : decode cJ23_next 39 = .ok (.if_icmp .lt 11, 3) := dk_161 0 11 (dk_at dksJ23_next_1 15 rfl rfl)
theorem dJ23_next_42 : decode cJ23_next 42 = .ok (.new 41, 3) := dk_187 0 41 (dk_at dksJ23_next_1 18 rfl rfl)
theorem dJ23_next_45 : decode cJ23_next 45 = .ok (.dup, 1) := dk_89 (dk_at dksJ23_next_1 21 rfl rfl)
theorem dJ23_next_46 : decode cJ23_next 46 = .ok (.invokespecial 43, 3) := dk_183 0 43 (dk_at dksJ23_next_2 0 rfl rfl)
theorem dJ23_next_49 : decode cJ23_next 49 = .ok (.athrow, 1) := dk_191 (dk_at dksJ23_next_2 3 rfl rfl)
theorem dJ23_next_50 : decode cJ23_next 50 = .ok (.aload_n 0, 1) := dk_42 (dk_at dksJ23_next_2 4 rfl rfl)
theorem dJ23_next_51 : decode cJ23_next 51 = .ok (.iload_n 1, 1) := dk_27 (dk_at dksJ23_next_2 5 rfl rfl)
theorem dJ23_next_52 : decode cJ23_next 52 = .ok (.iconst 1, 1) := dk_4 (dk_at dksJ23_next_2 6 rfl rfl)
theorem dJ23_next_53 : decode cJ23_next 53 = .ok (.iadd, 1) := dk_96 (dk_at dksJ23_next_2 7 rfl rfl)
theorem dJ23_next_54 : decode cJ23_next 54 = .ok (.putfield 25, 3) := dk_181 0 25 (dk_at dksJ23_next_2 8 rfl rfl)
theorem dJ23_next_57 : decode cJ23_next 57 = .ok (.aload_n 2, 1) := dk_44 (dk_at dksJ23_next_2 11 rfl rfl)
theorem dJ23_next_58 : decode cJ23_next 58 = .ok (.aload_n 0, 1) := dk_42 (dk_at dksJ23_next_2 12 rfl rfl)
theorem dJ23_next_59 : decode cJ23_next 59 = .ok (.iload_n 1, 1) := dk_27 (dk_at dksJ23_next_2 13 rfl rfl)
theorem dJ23_next_60 : decode cJ23_next 60 = .ok (.dup_x1, 1) := dk_90 (dk_at dksJ23_next_2 14 rfl rfl)
theorem dJ23_next_61 : decode cJ23_next 61 = .ok (.putfield 13, 3) := dk_181 0 13 (dk_at dksJ23_next_2 15 rfl rfl)
theorem dJ23_next_64 : decode cJ23_next 64 = .ok (.aaload, 1) := dk_50 (dk_at dksJ23_next_2 18 rfl rfl)
theorem dJ23_next_65 : decode cJ23_next 65 = .ok (.areturn, 1) := dk_176 (dk_at dksJ23_next_2 19 rfl rfl)
abbrev cJ23_checkForComodification : ByteArray := prog_45_method_6_code
def yJ23_checkForComodification : MethodName := ⟨RJ23, "checkForComodification", "()V"⟩
def dkwJ23_checkForComodification_0 : List UInt8 := [42, 180, 0, 1, 180, 0, 17, 42, 180, 0, 22, 159, 0, 11, 187, 0, 41, 89, 183, 0, 43, 191, 177]
abbrev dktJ23_checkForComodification_0 : List UInt8 := dkwJ23_checkForComodification_0 ++ []
theorem dksJ23_checkForComodification_0 : cJ23_checkForComodification.data.toList.drop 0 = dktJ23_checkForComodification_0 := by decide +kernel
theorem dJ23_checkForComodification_0 : decode cJ23_checkForComodification 0 = .ok (.aload_n 0, 1) := dk_42 (dk_at dksJ23_checkForComodification_0 0 rfl rfl)
theorem dJ23_checkForComodification_1 : decode cJ23_checkForComodification 1 = .ok (.getfield 1, 3) := dk_180 0 1 (dk_at dksJ23_checkForComodification_0 1 rfl rfl)
theorem dJ23_checkForComodification_4 : decode cJ23_checkForComodification 4 = .ok (.getfield 17, 3) := dk_180 0 17 (dk_at dksJ23_checkForComodification_0 4 rfl rfl)
theorem dJ23_checkForComodification_7 : decode cJ23_checkForComodification 7 = .ok (.aload_n 0, 1) := dk_42 (dk_at dksJ23_checkForComodification_0 7 rfl rfl)
theorem dJ23_checkForComodification_8 : decode cJ23_checkForComodification 8 = .ok (.getfield 22, 3) := dk_180 0 22 (dk_at dksJ23_checkForComodification_0 8 rfl rfl)
theorem dJ23_checkForComodification_11 : decode cJ23_checkForComodification 11 = .ok (.if_icmp .eq 11, 3) := dk_159 0 11 (dk_at dksJ23_checkForComodification_0 11 rfl rfl)
theorem dJ23_checkForComodification_14 : decode cJ23_checkForComodification 14 = .ok (.new 41, 3) := dk_187 0 41 (dk_at dksJ23_checkForComodification_0 14 rfl rfl)
theorem dJ23_checkForComodification_17 : decode cJ23_checkForComodification 17 = .ok (.dup, 1) := dk_89 (dk_at dksJ23_checkForComodification_0 17 rfl rfl)
theorem dJ23_checkForComodification_18 : decode cJ23_checkForComodification 18 = .ok (.invokespecial 43, 3) := dk_183 0 43 (dk_at dksJ23_checkForComodification_0 18 rfl rfl)
theorem dJ23_checkForComodification_21 : decode cJ23_checkForComodification 21 = .ok (.athrow, 1) := dk_191 (dk_at dksJ23_checkForComodification_0 21 rfl rfl)
theorem dJ23_checkForComodification_22 : decode cJ23_checkForComodification 22 = .ok (.return_, 1) := dk_177 (dk_at dksJ23_checkForComodification_0 22 rfl rfl)
theorem q69 : (Jvm.Cond.initialized "java/util/ArrayList$Itr") ∈ lw_all := lw_g (lw_at lw_m1 34 rfl) rfl
theorem q162 : (Jvm.Cond.fieldLink "java/util/ArrayList$Itr" (37 : Nat) "java/util/ArrayList" "elementData" "[Ljava/lang/Object;") ∈ lw_all := lw_g (lw_at lw_m1 127 rfl) rfl
theorem q163 : (Jvm.Cond.fieldLinkNest "java/util/ArrayList$Itr" (28 : Nat) "java/util/ArrayList" "size" "I" "java/util/ArrayList") ∈ lw_tbl := lw_at lw_m1 128 rfl
theorem q166 : (Jvm.Cond.fieldLink "java/util/ArrayList$Itr" (17 : Nat) "java/util/ArrayList" "modCount" "I") ∈ lw_all := lw_g (lw_at lw_m1 131 rfl) rfl
theorem q268 : (Jvm.Cond.instantiable "java/util/ArrayList$Itr" (4 : Nat)) ∈ lw_all := lw_g (lw_at lw_m1 233 rfl) rfl
theorem q270 : (Jvm.Cond.instanceMethod ({ cls := "java/util/ArrayList$Itr", name := "<init>", desc := "(Ljava/util/ArrayList;)V" } : Jvm.MethodName)) ∈ lw_all := lw_g (lw_at lw_m1 235 rfl) rfl
theorem q271 : (Jvm.Cond.code ({ cls := "java/util/ArrayList$Itr", name := "<init>", desc := "(Ljava/util/ArrayList;)V" } : Jvm.MethodName) prog_45_method_1_code (2 : Nat) (Option.none : Option Jvm.ClassFile.FieldType)) ∈ lw_all := lw_g (lw_at lw_m1 236 rfl) rfl
theorem q272 : (Jvm.Cond.methodLink "java/util/ArrayList$Itr" (7 : Nat) ({ cls := "java/lang/Object", name := "<init>", desc := "()V" } : Jvm.MethodName)) ∈ lw_all := lw_g (lw_at lw_m1 237 rfl) rfl
theorem q273 : (Jvm.Cond.fieldLink "java/util/ArrayList$Itr" (25 : Nat) "java/util/ArrayList$Itr" "cursor" "I") ∈ lw_all := lw_g (lw_at lw_m1 238 rfl) rfl
theorem q274 : (Jvm.Cond.fieldLink "java/util/ArrayList$Itr" (13 : Nat) "java/util/ArrayList$Itr" "lastRet" "I") ∈ lw_all := lw_g (lw_at lw_m1 239 rfl) rfl
theorem q275 : (Jvm.Cond.fieldLink "java/util/ArrayList$Itr" (22 : Nat) "java/util/ArrayList$Itr" "expectedModCount" "I") ∈ lw_all := lw_g (lw_at lw_m2 0 rfl) rfl
theorem q276 : (Jvm.Cond.fieldLink "java/util/ArrayList$Itr" (1 : Nat) "java/util/ArrayList$Itr" "this$0" "Ljava/util/ArrayList;") ∈ lw_all := lw_g (lw_at lw_m2 1 rfl) rfl
theorem q277 : (Jvm.Cond.lays "java/util/ArrayList$Itr" "java/util/ArrayList$Itr" "cursor" "I") ∈ lw_all := lw_g (lw_at lw_m2 2 rfl) rfl
theorem q278 : (Jvm.Cond.soleField "java/util/ArrayList$Itr" "cursor") ∈ lw_all := lw_g (lw_at lw_m2 3 rfl) rfl
theorem q279 : (Jvm.Cond.lays "java/util/ArrayList$Itr" "java/util/ArrayList$Itr" "lastRet" "I") ∈ lw_all := lw_g (lw_at lw_m2 4 rfl) rfl
theorem q280 : (Jvm.Cond.soleField "java/util/ArrayList$Itr" "lastRet") ∈ lw_all := lw_g (lw_at lw_m2 5 rfl) rfl
theorem q281 : (Jvm.Cond.lays "java/util/ArrayList$Itr" "java/util/ArrayList$Itr" "expectedModCount" "I") ∈ lw_all := lw_g (lw_at lw_m2 6 rfl) rfl
theorem q282 : (Jvm.Cond.soleField "java/util/ArrayList$Itr" "expectedModCount") ∈ lw_all := lw_g (lw_at lw_m2 7 rfl) rfl
theorem q283 : (Jvm.Cond.laysFinal "java/util/ArrayList$Itr" "java/util/ArrayList$Itr" "this$0" "Ljava/util/ArrayList;") ∈ lw_all := lw_g (lw_at lw_m2 8 rfl) rfl
theorem q284 : (Jvm.Cond.soleField "java/util/ArrayList$Itr" "this$0") ∈ lw_all := lw_g (lw_at lw_m2 9 rfl) rfl
theorem q285 : (Jvm.Cond.superclass "java/util/ArrayList$Itr" "java/lang/Object") ∈ lw_all := lw_g (lw_at lw_m2 10 rfl) rfl
theorem q290 : (Jvm.Cond.castable "java/util/ArrayList$Itr" "java/util/Iterator") ∈ lw_tbl := lw_at lw_m2 15 rfl
theorem q291 : (Jvm.Cond.selects "java/util/ArrayList$Itr" ({ cls := "java/util/Iterator", name := "hasNext", desc := "()Z" } : Jvm.MethodName) ({ cls := "java/util/ArrayList$Itr", name := "hasNext", desc := "()Z" } : Jvm.MethodName)) ∈ lw_all := lw_g (lw_at lw_m2 16 rfl) rfl
theorem q292 : (Jvm.Cond.unhidden "java/util/ArrayList$Itr" "hasNext" "()Z") ∈ lw_tbl := lw_at lw_m2 17 rfl
theorem q293 : (Jvm.Cond.instanceMethod ({ cls := "java/util/ArrayList$Itr", name := "hasNext", desc := "()Z" } : Jvm.MethodName)) ∈ lw_all := lw_g (lw_at lw_m2 18 rfl) rfl
theorem q294 : (Jvm.Cond.publicMethod ({ cls := "java/util/ArrayList$Itr", name := "hasNext", desc := "()Z" } : Jvm.MethodName)) ∈ lw_tbl := lw_at lw_m2 19 rfl
theorem q295 : (Jvm.Cond.code ({ cls := "java/util/ArrayList$Itr", name := "hasNext", desc := "()Z" } : Jvm.MethodName) prog_45_method_2_code (1 : Nat) (Option.some Jvm.ClassFile.FieldType.boolean)) ∈ lw_all := lw_g (lw_at lw_m2 20 rfl) rfl
theorem q300 : (Jvm.Cond.selects "java/util/ArrayList$Itr" ({ cls := "java/util/Iterator", name := "next", desc := "()Ljava/lang/Object;" } : Jvm.MethodName) ({ cls := "java/util/ArrayList$Itr", name := "next", desc := "()Ljava/lang/Object;" } : Jvm.MethodName)) ∈ lw_all := lw_g (lw_at lw_m2 25 rfl) rfl
theorem q301 : (Jvm.Cond.unhidden "java/util/ArrayList$Itr" "next" "()Ljava/lang/Object;") ∈ lw_tbl := lw_at lw_m2 26 rfl
theorem q302 : (Jvm.Cond.instanceMethod ({ cls := "java/util/ArrayList$Itr", name := "next", desc := "()Ljava/lang/Object;" } : Jvm.MethodName)) ∈ lw_all := lw_g (lw_at lw_m2 27 rfl) rfl
theorem q303 : (Jvm.Cond.publicMethod ({ cls := "java/util/ArrayList$Itr", name := "next", desc := "()Ljava/lang/Object;" } : Jvm.MethodName)) ∈ lw_tbl := lw_at lw_m2 28 rfl
theorem q304 : (Jvm.Cond.code ({ cls := "java/util/ArrayList$Itr", name := "next", desc := "()Ljava/lang/Object;" } : Jvm.MethodName) prog_45_method_3_code (3 : Nat) (Option.some (Jvm.ClassFile.FieldType.object "java/lang/Object"))) ∈ lw_all := lw_g (lw_at lw_m2 29 rfl) rfl
theorem q305 : (Jvm.Cond.methodLink "java/util/ArrayList$Itr" (31 : Nat) ({ cls := "java/util/ArrayList$Itr", name := "checkForComodification", desc := "()V" } : Jvm.MethodName)) ∈ lw_all := lw_g (lw_at lw_m2 30 rfl) rfl
theorem q306 : (Jvm.Cond.instanceMethod ({ cls := "java/util/ArrayList$Itr", name := "checkForComodification", desc := "()V" } : Jvm.MethodName)) ∈ lw_all := lw_g (lw_at lw_m2 31 rfl) rfl
theorem q307 : (Jvm.Cond.selects "java/util/ArrayList$Itr" ({ cls := "java/util/ArrayList$Itr", name := "checkForComodification", desc := "()V" } : Jvm.MethodName) ({ cls := "java/util/ArrayList$Itr", name := "checkForComodification", desc := "()V" } : Jvm.MethodName)) ∈ lw_all := lw_g (lw_at lw_m2 32 rfl) rfl
theorem q308 : (Jvm.Cond.code ({ cls := "java/util/ArrayList$Itr", name := "checkForComodification", desc := "()V" } : Jvm.MethodName) prog_45_method_6_code (1 : Nat) (Option.none : Option Jvm.ClassFile.FieldType)) ∈ lw_all := lw_g (lw_at lw_m2 33 rfl) rfl
theorem q784 : (Jvm.Cond.selects "java/util/ArrayList$Itr" ({ cls := "java/lang/Object", name := "getClass", desc := "()Ljava/lang/Class;" } : Jvm.MethodName) ({ cls := "java/lang/Object", name := "getClass", desc := "()Ljava/lang/Class;" } : Jvm.MethodName)) ∈ lw_all := lw_g (lw_at lw_m4 29 rfl) rfl
theorem q1798 : (Jvm.Cond.castable "java/util/ArrayList$Itr" "java/lang/Object") ∈ lw_tbl := lw_at lw_m8 83 rfl
theorem in_J23 : ∀ w ∈ wsJ230, w ∈ lw_all := lw_in wsJ230 [277, 279, 281, 283] (by decide +kernel) (by decide +kernel)

/-! java/lang/Long -/
set_option maxRecDepth 100000
def RJ24 : String := "java/lang/Long"
abbrev cJ24_compare : ByteArray := prog_27_method_42_code
def yJ24_compare : MethodName := ⟨RJ24, "compare", "(JJ)I"⟩
def dkwJ24_compare_0 : List UInt8 := [30, 32, 148, 156, 0, 7, 2, 167, 0, 14, 30, 32, 148, 154, 0, 7, 3, 167, 0, 4, 4, 172]
abbrev dktJ24_compare_0 : List UInt8 := dkwJ24_compare_0 ++ []
theorem dksJ24_compare_0 : cJ24_compare.data.toList.drop 0 = dktJ24_compare_0 := by decide +kernel
theorem dJ24_compare_0 : decode cJ24_compare 0 = .ok (.lload_n 0, 1) := dk_30 (dk_at dksJ24_compare_0 0 rfl rfl)
theorem dJ24_compare_1 : decode cJ24_compare 1 = .ok (.lload_n 2, 1) := dk_32 (dk_at dksJ24_compare_0 1 rfl rfl)
theorem dJ24_compare_2 : decode cJ24_compare 2 = .ok (.lcmp, 1) := dk_148 (dk_at dksJ24_compare_0 2 rfl rfl)
theorem dJ24_compare_3 : decode cJ24_compare 3 = .ok (.ifCond .ge 7, 3) := dk_156 0 7 (dk_at dksJ24_compare_0 3 rfl rfl)
theorem dJ24_compare_6 : decode cJ24_compare 6 = .ok (.iconst (-1), 1) := dk_2 (dk_at dksJ24_compare_0 6 rfl rfl)
theorem dJ24_compare_7 : decode cJ24_compare 7 = .ok (.goto 14, 3) := dk_167 0 14 (dk_at dksJ24_compare_0 7 rfl rfl)
theorem dJ24_compare_10 : decode cJ24_compare 10 = .ok (.lload_n 0, 1) := dk_30 (dk_at dksJ24_compare_0 10 rfl rfl)
theorem dJ24_compare_11 : decode cJ24_compare 11 = .ok (.lload_n 2, 1) := dk_32 (dk_at dksJ24_compare_0 11 rfl rfl)
theorem dJ24_compare_12 : decode cJ24_compare 12 = .ok (.lcmp, 1) := dk_148 (dk_at dksJ24_compare_0 12 rfl rfl)
theorem dJ24_compare_13 : decode cJ24_compare 13 = .ok (.ifCond .ne 7, 3) := dk_154 0 7 (dk_at dksJ24_compare_0 13 rfl rfl)
theorem dJ24_compare_16 : decode cJ24_compare 16 = .ok (.iconst 0, 1) := dk_3 (dk_at dksJ24_compare_0 16 rfl rfl)
theorem dJ24_compare_17 : decode cJ24_compare 17 = .ok (.goto 4, 3) := dk_167 0 4 (dk_at dksJ24_compare_0 17 rfl rfl)
theorem dJ24_compare_20 : decode cJ24_compare 20 = .ok (.iconst 1, 1) := dk_4 (dk_at dksJ24_compare_0 20 rfl rfl)
theorem dJ24_compare_21 : decode cJ24_compare 21 = .ok (.ireturn, 1) := dk_172 (dk_at dksJ24_compare_0 21 rfl rfl)
theorem q70 : (Jvm.Cond.initialized "java/lang/Long") ∈ lw_all := lw_g (lw_at lw_m1 35 rfl) rfl
theorem q864 : (Jvm.Cond.static ({ cls := "java/lang/Long", name := "compare", desc := "(JJ)I" } : Jvm.MethodName)) ∈ lw_all := lw_g (lw_at lw_m4 109 rfl) rfl
theorem q865 : (Jvm.Cond.code ({ cls := "java/lang/Long", name := "compare", desc := "(JJ)I" } : Jvm.MethodName) prog_27_method_42_code (4 : Nat) (Option.some Jvm.ClassFile.FieldType.int)) ∈ lw_all := lw_g (lw_at lw_m4 110 rfl) rfl
theorem q954 : (Jvm.Cond.static ({ cls := "java/lang/Long", name := "numberOfLeadingZeros", desc := "(J)I" } : Jvm.MethodName)) ∈ lw_all := lw_g (lw_at lw_m4 199 rfl) rfl
theorem q955 : (Jvm.Cond.code ({ cls := "java/lang/Long", name := "numberOfLeadingZeros", desc := "(J)I" } : Jvm.MethodName) prog_27_method_48_code (3 : Nat) (Option.some Jvm.ClassFile.FieldType.int)) ∈ lw_all := lw_g (lw_at lw_m4 200 rfl) rfl
theorem q956 : (Jvm.Cond.methodLink "java/lang/Long" (308 : Nat) ({ cls := "java/lang/Integer", name := "numberOfLeadingZeros", desc := "(I)I" } : Jvm.MethodName)) ∈ lw_all := lw_g (lw_at lw_m4 201 rfl) rfl
theorem q963 : (Jvm.Cond.static ({ cls := "java/lang/Long", name := "numberOfTrailingZeros", desc := "(J)I" } : Jvm.MethodName)) ∈ lw_all := lw_g (lw_at lw_m4 208 rfl) rfl
theorem q964 : (Jvm.Cond.code ({ cls := "java/lang/Long", name := "numberOfTrailingZeros", desc := "(J)I" } : Jvm.MethodName) prog_27_method_49_code (3 : Nat) (Option.some Jvm.ClassFile.FieldType.int)) ∈ lw_all := lw_g (lw_at lw_m4 209 rfl) rfl
theorem q965 : (Jvm.Cond.methodLink "java/lang/Long" (311 : Nat) ({ cls := "java/lang/Integer", name := "numberOfTrailingZeros", desc := "(I)I" } : Jvm.MethodName)) ∈ lw_all := lw_g (lw_at lw_m4 210 rfl) rfl

/-! java/util/Objects -/
set_option maxRecDepth 100000
def RJ26 : String := "java/util/Objects"
abbrev cJ26_checkIndex : ByteArray := prog_54_method_17_code
def yJ26_checkIndex : MethodName := ⟨RJ26, "checkIndex", "(II)I"⟩
def dkwJ26_checkIndex_0 : List UInt8 := [26, 27, 1, 184, 0, 105, 172]
abbrev dktJ26_checkIndex_0 : List UInt8 := dkwJ26_checkIndex_0 ++ []
theorem dksJ26_checkIndex_0 : cJ26_checkIndex.data.toList.drop 0 = dktJ26_checkIndex_0 := by decide +kernel
theorem dJ26_checkIndex_0 : decode cJ26_checkIndex 0 = .ok (.iload_n 0, 1) := dk_26 (dk_at dksJ26_checkIndex_0 0 rfl rfl)
theorem dJ26_checkIndex_1 : decode cJ26_checkIndex 1 = .ok (.iload_n 1, 1) := dk_27 (dk_at dksJ26_checkIndex_0 1 rfl rfl)
theorem dJ26_checkIndex_2 : decode cJ26_checkIndex 2 = .ok (.aconst_null, 1) := dk_1 (dk_at dksJ26_checkIndex_0 2 rfl rfl)
theorem dJ26_checkIndex_3 : decode cJ26_checkIndex 3 = .ok (.invokestatic 105, 3) := dk_184 0 105 (dk_at dksJ26_checkIndex_0 3 rfl rfl)
theorem dJ26_checkIndex_6 : decode cJ26_checkIndex 6 = .ok (.ireturn, 1) := dk_172 (dk_at dksJ26_checkIndex_0 6 rfl rfl)
abbrev cJ26_requireNonNull : ByteArray := prog_54_method_10_code
def yJ26_requireNonNull : MethodName := ⟨RJ26, "requireNonNull", "(Ljava/lang/Object;)Ljava/lang/Object;"⟩
def dkwJ26_requireNonNull_0 : List UInt8 := [42, 199, 0, 11, 187, 0, 84, 89, 183, 0, 86, 191, 42, 176]
abbrev dktJ26_requireNonNull_0 : List UInt8 := dkwJ26_requireNonNull_0 ++ []
theorem dksJ26_requireNonNull_0 : cJ26_requireNonNull.data.toList.drop 0 = dktJ26_requireNonNull_0 := by decide +kernel
theorem dJ26_requireNonNull_0 : decode cJ26_requireNonNull 0 = .ok (.aload_n 0, 1) := dk_42 (dk_at dksJ26_requireNonNull_0 0 rfl rfl)
theorem dJ26_requireNonNull_1 : decode cJ26_requireNonNull 1 = .ok (.ifnonnull 11, 3) := dk_199 0 11 (dk_at dksJ26_requireNonNull_0 1 rfl rfl)
theorem dJ26_requireNonNull_4 : decode cJ26_requireNonNull 4 = .ok (.new 84, 3) := dk_187 0 84 (dk_at dksJ26_requireNonNull_0 4 rfl rfl)
theorem dJ26_requireNonNull_7 : decode cJ26_requireNonNull 7 = .ok (.dup, 1) := dk_89 (dk_at dksJ26_requireNonNull_0 7 rfl rfl)
theorem dJ26_requireNonNull_8 : decode cJ26_requireNonNull 8 = .ok (.invokespecial 86, 3) := dk_183 0 86 (dk_at dksJ26_requireNonNull_0 8 rfl rfl)
theorem dJ26_requireNonNull_11 : decode cJ26_requireNonNull 11 = .ok (.athrow, 1) := dk_191 (dk_at dksJ26_requireNonNull_0 11 rfl rfl)
theorem dJ26_requireNonNull_12 : decode cJ26_requireNonNull 12 = .ok (.aload_n 0, 1) := dk_42 (dk_at dksJ26_requireNonNull_0 12 rfl rfl)
theorem dJ26_requireNonNull_13 : decode cJ26_requireNonNull 13 = .ok (.areturn, 1) := dk_176 (dk_at dksJ26_requireNonNull_0 13 rfl rfl)
theorem q73 : (Jvm.Cond.initialized "java/util/Objects") ∈ lw_all := lw_g (lw_at lw_m1 38 rfl) rfl
theorem q242 : (Jvm.Cond.static ({ cls := "java/util/Objects", name := "checkIndex", desc := "(II)I" } : Jvm.MethodName)) ∈ lw_all := lw_g (lw_at lw_m1 207 rfl) rfl
theorem q243 : (Jvm.Cond.code ({ cls := "java/util/Objects", name := "checkIndex", desc := "(II)I" } : Jvm.MethodName) prog_54_method_17_code (2 : Nat) (Option.some Jvm.ClassFile.FieldType.int)) ∈ lw_all := lw_g (lw_at lw_m1 208 rfl) rfl
theorem q244 : (Jvm.Cond.methodLink "java/util/Objects" (105 : Nat) ({ cls := "jdk/internal/util/Preconditions", name := "checkIndex", desc := "(IILjava/util/function/BiFunction;)I" } : Jvm.MethodName)) ∈ lw_all := lw_g (lw_at lw_m1 209 rfl) rfl
theorem q1015 : (Jvm.Cond.static ({ cls := "java/util/Objects", name := "requireNonNull", desc := "(Ljava/lang/Object;)Ljava/lang/Object;" } : Jvm.MethodName)) ∈ lw_all := lw_g (lw_at lw_m5 20 rfl) rfl
theorem q1016 : (Jvm.Cond.code ({ cls := "java/util/Objects", name := "requireNonNull", desc := "(Ljava/lang/Object;)Ljava/lang/Object;" } : Jvm.MethodName) prog_54_method_10_code (1 : Nat) (Option.some (Jvm.ClassFile.FieldType.object "java/lang/Object"))) ∈ lw_all := lw_g (lw_at lw_m5 21 rfl) rfl

/-! java/util/TreeMap$Entry -/
set_option maxRecDepth 100000
def RJ27 : String := "java/util/TreeMap$Entry"
def TJ27 : u_T := fun k => match k with
  | 0 => ("java/util/TreeMap$Entry", "key", "Ljava/lang/Object;", false)
  | 1 => ("java/util/TreeMap$Entry", "value", "Ljava/lang/Object;", false)
  | 2 => ("java/util/TreeMap$Entry", "left", "Ljava/util/TreeMap$Entry;", false)
  | 3 => ("java/util/TreeMap$Entry", "right", "Ljava/util/TreeMap$Entry;", false)
  | 4 => ("java/util/TreeMap$Entry", "parent", "Ljava/util/TreeMap$Entry;", false)
  | _ => ("java/util/TreeMap$Entry", "color", "Z", false)
def tyJ27 : Nat → FieldType := fun k => match k with
  | 0 => .object "java/lang/Object"
  | 1 => .object "java/lang/Object"
  | 2 => .object "java/util/TreeMap$Entry"
  | 3 => .object "java/util/TreeMap$Entry"
  | 4 => .object "java/util/TreeMap$Entry"
  | _ => .boolean
abbrev wsJ270 : List Cond := u_ws RJ27 TJ27 6
theorem nmJ27 : ∀ a, a < 6 → ∀ b, b < 6 → a ≠ b → (TJ27 a).2.1 ≠ (TJ27 b).2.1 := by decide +kernel
theorem tyJ27_ok : ∀ k, k < 6 → parseFieldDescriptor (TJ27 k).2.2.1 = some (tyJ27 k) := by decide +kernel
abbrev cJ27_init : ByteArray := prog_62_method_1_code
def yJ27_init : MethodName := ⟨RJ27, "<init>", "(Ljava/lang/Object;Ljava/lang/Object;Ljava/util/TreeMap$Entry;)V"⟩
def dkwJ27_init_1 : List UInt8 := [177]
abbrev dktJ27_init_1 : List UInt8 := dkwJ27_init_1 ++ []
def dkwJ27_init_0 : List UInt8 := [42, 183, 0, 3, 42, 4, 181, 0, 9, 42, 43, 181, 0, 15, 42, 44, 181, 0, 19, 42, 45, 181, 0, 22]
abbrev dktJ27_init_0 : List UInt8 := dkwJ27_init_0 ++ dktJ27_init_1
theorem dksJ27_init_0 : cJ27_init.data.toList.drop 0 = dktJ27_init_0 := by decide +kernel
theorem dksJ27_init_1 : cJ27_init.data.toList.drop 24 = dktJ27_init_1 := dk_seg dksJ27_init_0 24 rfl rfl
theorem dJ27_init_0 : decode cJ27_init 0 = .ok (.aload_n 0, 1) := dk_42 (dk_at dksJ27_init_0 0 rfl rfl)
theorem dJ27_init_1 : decode cJ27_init 1 = .ok (.invokespecial 3, 3) := dk_183 0 3 (dk_at dksJ27_init_0 1 rfl rfl)
theorem dJ27_init_4 : decode cJ27_init 4 = .ok (.aload_n 0, 1) := dk_42 (dk_at dksJ27_init_0 4 rfl rfl)
theorem dJ27_init_5 : decode cJ27_init 5 = .ok (.iconst 1, 1) := dk_4 (dk_at dksJ27_init_0 5 rfl rfl)
theorem dJ27_init_6 : decode cJ27_init 6 = .ok (.putfield 9, 3) := dk_181 0 9 (dk_at dksJ27_init_0 6 rfl rfl)
theorem dJ27_init_9 : decode cJ27_init 9 = .ok (.aload_n 0, 1) := dk_42 (dk_at dksJ27_init_0 9 rfl rfl)
theorem dJ27_init_10 : decode cJ27_init 10 = .ok (.aload_n 1, 1) := dk_43 (dk_at dksJ27_init_0 10 rfl rfl)
theorem dJ27_init_11 : decode cJ27_init 11 = .ok (.putfield 15, 3) := dk_181 0 15 (dk_at dksJ27_init_0 11 rfl rfl)
theorem dJ27_init_14 : decode cJ27_init 14 = .ok (.aload_n 0, 1) := dk_42 (dk_at dksJ27_init_0 14 rfl rfl)
theorem dJ27_init_15 : decode cJ27_init 15 = .ok (.aload_n 2, 1) := dk_44 (dk_at dksJ27_init_0 15 rfl rfl)
theorem dJ27_init_16 : decode cJ27_init 16 = .ok (.putfield 19, 3) := dk_181 0 19 (dk_at dksJ27_init_0 16 rfl rfl)
theorem dJ27_init_19 : decode cJ27_init 19 = .ok (.aload_n 0, 1) := dk_42 (dk_at dksJ27_init_0 19 rfl rfl)
theorem dJ27_init_20 : decode cJ27_init 20 = .ok (.aload_n 3, 1) := dk_45 (dk_at dksJ27_init_0 20 rfl rfl)
theorem dJ27_init_21 : decode cJ27_init 21 = .ok (.putfield 22, 3) := dk_181 0 22 (dk_at dksJ27_init_0 21 rfl rfl)
theorem dJ27_init_24 : decode cJ27_init 24 = .ok (.return_, 1) := dk_177 (dk_at dksJ27_init_1 0 rfl rfl)
theorem q74 : (Jvm.Cond.initialized "java/util/TreeMap$Entry") ∈ lw_all := lw_g (lw_at lw_m1 39 rfl) rfl
theorem q787 : (Jvm.Cond.selects "java/util/TreeMap$Entry" ({ cls := "java/lang/Object", name := "getClass", desc := "()Ljava/lang/Class;" } : Jvm.MethodName) ({ cls := "java/lang/Object", name := "getClass", desc := "()Ljava/lang/Class;" } : Jvm.MethodName)) ∈ lw_all := lw_g (lw_at lw_m4 32 rfl) rfl
theorem q1080 : (Jvm.Cond.instantiable "java/util/TreeMap$Entry" (6 : Nat)) ∈ lw_all := lw_g (lw_at lw_m5 85 rfl) rfl
theorem q1082 : (Jvm.Cond.instanceMethod ({ cls := "java/util/TreeMap$Entry", name := "<init>", desc := "(Ljava/lang/Object;Ljava/lang/Object;Ljava/util/TreeMap$Entry;)V" } : Jvm.MethodName)) ∈ lw_all := lw_g (lw_at lw_m5 87 rfl) rfl
theorem q1083 : (Jvm.Cond.code ({ cls := "java/util/TreeMap$Entry", name := "<init>", desc := "(Ljava/lang/Object;Ljava/lang/Object;Ljava/util/TreeMap$Entry;)V" } : Jvm.MethodName) prog_62_method_1_code (4 : Nat) (Option.none : Option Jvm.ClassFile.FieldType)) ∈ lw_all := lw_g (lw_at lw_m5 88 rfl) rfl
theorem q1084 : (Jvm.Cond.methodLink "java/util/TreeMap$Entry" (3 : Nat) ({ cls := "java/lang/Object", name := "<init>", desc := "()V" } : Jvm.MethodName)) ∈ lw_all := lw_g (lw_at lw_m5 89 rfl) rfl
theorem q1085 : (Jvm.Cond.fieldLink "java/util/TreeMap$Entry" (15 : Nat) "java/util/TreeMap$Entry" "key" "Ljava/lang/Object;") ∈ lw_all := lw_g (lw_at lw_m5 90 rfl) rfl
theorem q1087 : (Jvm.Cond.fieldLink "java/util/TreeMap$Entry" (19 : Nat) "java/util/TreeMap$Entry" "value" "Ljava/lang/Object;") ∈ lw_all := lw_g (lw_at lw_m5 92 rfl) rfl
theorem q1091 : (Jvm.Cond.fieldLink "java/util/TreeMap$Entry" (22 : Nat) "java/util/TreeMap$Entry" "parent" "Ljava/util/TreeMap$Entry;") ∈ lw_all := lw_g (lw_at lw_m5 96 rfl) rfl
theorem q1093 : (Jvm.Cond.fieldLink "java/util/TreeMap$Entry" (9 : Nat) "java/util/TreeMap$Entry" "color" "Z") ∈ lw_all := lw_g (lw_at lw_m5 98 rfl) rfl
theorem q1095 : (Jvm.Cond.lays "java/util/TreeMap$Entry" "java/util/TreeMap$Entry" "key" "Ljava/lang/Object;") ∈ lw_all := lw_g (lw_at lw_m5 100 rfl) rfl
theorem q1096 : (Jvm.Cond.soleField "java/util/TreeMap$Entry" "key") ∈ lw_all := lw_g (lw_at lw_m5 101 rfl) rfl
theorem q1097 : (Jvm.Cond.lays "java/util/TreeMap$Entry" "java/util/TreeMap$Entry" "value" "Ljava/lang/Object;") ∈ lw_all := lw_g (lw_at lw_m5 102 rfl) rfl
theorem q1098 : (Jvm.Cond.soleField "java/util/TreeMap$Entry" "value") ∈ lw_all := lw_g (lw_at lw_m5 103 rfl) rfl
theorem q1099 : (Jvm.Cond.lays "java/util/TreeMap$Entry" "java/util/TreeMap$Entry" "left" "Ljava/util/TreeMap$Entry;") ∈ lw_all := lw_g (lw_at lw_m5 104 rfl) rfl
theorem q1100 : (Jvm.Cond.soleField "java/util/TreeMap$Entry" "left") ∈ lw_all := lw_g (lw_at lw_m5 105 rfl) rfl
theorem q1101 : (Jvm.Cond.lays "java/util/TreeMap$Entry" "java/util/TreeMap$Entry" "right" "Ljava/util/TreeMap$Entry;") ∈ lw_all := lw_g (lw_at lw_m5 106 rfl) rfl
theorem q1102 : (Jvm.Cond.soleField "java/util/TreeMap$Entry" "right") ∈ lw_all := lw_g (lw_at lw_m5 107 rfl) rfl
theorem q1103 : (Jvm.Cond.lays "java/util/TreeMap$Entry" "java/util/TreeMap$Entry" "parent" "Ljava/util/TreeMap$Entry;") ∈ lw_all := lw_g (lw_at lw_m5 108 rfl) rfl
theorem q1104 : (Jvm.Cond.soleField "java/util/TreeMap$Entry" "parent") ∈ lw_all := lw_g (lw_at lw_m5 109 rfl) rfl
theorem q1105 : (Jvm.Cond.lays "java/util/TreeMap$Entry" "java/util/TreeMap$Entry" "color" "Z") ∈ lw_all := lw_g (lw_at lw_m5 110 rfl) rfl
theorem q1106 : (Jvm.Cond.soleField "java/util/TreeMap$Entry" "color") ∈ lw_all := lw_g (lw_at lw_m5 111 rfl) rfl
theorem q1107 : (Jvm.Cond.superclass "java/util/TreeMap$Entry" "java/lang/Object") ∈ lw_all := lw_g (lw_at lw_m5 112 rfl) rfl
theorem q1800 : (Jvm.Cond.castable "java/util/TreeMap$Entry" "java/lang/Object") ∈ lw_tbl := lw_at lw_m8 85 rfl
theorem in_J27 : ∀ w ∈ wsJ270, w ∈ lw_all := lw_in wsJ270 [1095, 1097, 1099, 1101, 1103, 1105] (by decide +kernel) (by decide +kernel)

/-! java/util/AbstractQueue -/
set_option maxRecDepth 100000
def RJ28 : String := "java/util/AbstractQueue"
abbrev cJ28_init : ByteArray := prog_43_method_1_code
def yJ28_init : MethodName := ⟨RJ28, "<init>", "()V"⟩
theorem dJ28_init_0 : decode cJ28_init 0 = .ok (.aload_n 0, 1) := by decide +kernel
theorem dJ28_init_1 : decode cJ28_init 1 = .ok (.invokespecial 1, 3) := by decide +kernel
theorem dJ28_init_4 : decode cJ28_init 4 = .ok (.return_, 1) := by decide +kernel
theorem q76 : (Jvm.Cond.initialized "java/util/AbstractQueue") ∈ lw_all := lw_g (lw_at lw_m1 41 rfl) rfl
theorem q1335 : (Jvm.Cond.instanceMethod ({ cls := "java/util/AbstractQueue", name := "<init>", desc := "()V" } : Jvm.MethodName)) ∈ lw_all := lw_g (lw_at lw_m6 100 rfl) rfl
theorem q1336 : (Jvm.Cond.code ({ cls := "java/util/AbstractQueue", name := "<init>", desc := "()V" } : Jvm.MethodName) prog_43_method_1_code (1 : Nat) (Option.none : Option Jvm.ClassFile.FieldType)) ∈ lw_all := lw_g (lw_at lw_m6 101 rfl) rfl
theorem q1337 : (Jvm.Cond.methodLink "java/util/AbstractQueue" (1 : Nat) ({ cls := "java/util/AbstractCollection", name := "<init>", desc := "()V" } : Jvm.MethodName)) ∈ lw_all := lw_g (lw_at lw_m6 102 rfl) rfl

/-! java/util/PriorityQueue -/
set_option maxRecDepth 100000
def RJ29 : String := "java/util/PriorityQueue"
def TJ29 : u_T := fun k => match k with
  | 0 => ("java/util/PriorityQueue", "queue", "[Ljava/lang/Object;", false)
  | 1 => ("java/util/PriorityQueue", "size", "I", false)
  | 2 => ("java/util/PriorityQueue", "comparator", "Ljava/util/Comparator;", true)
  | _ => ("java/util/PriorityQueue", "modCount", "I", false)
def tyJ29 : Nat → FieldType := fun k => match k with
  | 0 => .array (.object "java/lang/Object")
  | 1 => .int
  | 2 => .object "java/util/Comparator"
  | _ => .int
abbrev wsJ290 : List Cond := u_ws RJ29 TJ29 4
theorem nmJ29 : ∀ a, a < 4 → ∀ b, b < 4 → a ≠ b → (TJ29 a).2.1 ≠ (TJ29 b).2.1 := by decide +kernel
theorem tyJ29_ok : ∀ k, k < 4 → parseFieldDescriptor (TJ29 k).2.2.1 = some (tyJ29 k) := by decide +kernel
abbrev cJ29_init : ByteArray := prog_55_method_3_code
def yJ29_init : MethodName := ⟨RJ29, "<init>", "(Ljava/util/Comparator;)V"⟩
def dkwJ29_init_0 : List UInt8 := [42, 16, 11, 43, 183, 0, 3, 177]
abbrev dktJ29_init_0 : List UInt8 := dkwJ29_init_0 ++ []
theorem dksJ29_init_0 : cJ29_init.data.toList.drop 0 = dktJ29_init_0 := by decide +kernel
theorem dJ29_init_0 : decode cJ29_init 0 = .ok (.aload_n 0, 1) := dk_42 (dk_at dksJ29_init_0 0 rfl rfl)
theorem dJ29_init_1 : decode cJ29_init 1 = .ok (.bipush 11, 2) := dk_16 11 (dk_at dksJ29_init_0 1 rfl rfl)
theorem dJ29_init_3 : decode cJ29_init 3 = .ok (.aload_n 1, 1) := dk_43 (dk_at dksJ29_init_0 3 rfl rfl)
theorem dJ29_init_4 : decode cJ29_init 4 = .ok (.invokespecial 3, 3) := dk_183 0 3 (dk_at dksJ29_init_0 4 rfl rfl)
theorem dJ29_init_7 : decode cJ29_init 7 = .ok (.return_, 1) := dk_177 (dk_at dksJ29_init_0 7 rfl rfl)
abbrev cJ29_init_2 : ByteArray := prog_55_method_4_code
def yJ29_init_2 : MethodName := ⟨RJ29, "<init>", "(ILjava/util/Comparator;)V"⟩
def dkwJ29_init_2_1 : List UInt8 := [181, 0, 17, 42, 44, 181, 0, 21, 177]
abbrev dktJ29_init_2_1 : List UInt8 := dkwJ29_init_2_1 ++ []
def dkwJ29_init_2_0 : List UInt8 := [42, 183, 0, 7, 27, 4, 162, 0, 11, 187, 0, 12, 89, 183, 0, 14, 191, 42, 27, 189, 0, 15]
abbrev dktJ29_init_2_0 : List UInt8 := dkwJ29_init_2_0 ++ dktJ29_init_2_1
theorem dksJ29_init_2_0 : cJ29_init_2.data.toList.drop 0 = dktJ29_init_2_0 := by decide +kernel
theorem dksJ29_init_2_1 : cJ29_init_2.data.toList.drop 22 = dktJ29_init_2_1 := dk_seg dksJ29_init_2_0 22 rfl rfl
theorem dJ29_init_2_0 : decode cJ29_init_2 0 = .ok (.aload_n 0, 1) := dk_42 (dk_at dksJ29_init_2_0 0 rfl rfl)
theorem dJ29_init_2_1 : decode cJ29_init_2 1 = .ok (.invokespecial 7, 3) := dk_183 0 7 (dk_at dksJ29_init_2_0 1 rfl rfl)
theorem dJ29_init_2_4 : decode cJ29_init_2 4 = .ok (.iload_n 1, 1) := dk_27 (dk_at dksJ29_init_2_0 4 rfl rfl)
theorem dJ29_init_2_5 : decode cJ29_init_2 5 = .ok (.iconst 1, 1) := dk_4 (dk_at dksJ29_init_2_0 5 rfl rfl)
theorem dJ29_init_2_6 : decode cJ29_init_2 6 = .ok (.if_icmp .ge 11, 3) := dk_162 0 11 (dk_at dksJ29_init_2_0 6 rfl rfl)
theorem dJ29_init_2_9 : decode cJ29_init_2 9 = .ok (.new 12, 3) := dk_187 0 12 (dk_at dksJ29_init_2_0 9 rfl rfl)
theorem dJ29_init_2_12 : decode cJ29_init_2 12 = .ok (.dup, 1) := dk_89 (dk_at dksJ29_init_2_0 12 rfl rfl)
theorem dJ29_init_2_13 : decode cJ29_init_2 13 = .ok (.invokespecial 14, 3) := dk_183 0 14 (dk_at dksJ29_init_2_0 13 rfl rfl)
theorem dJ29_init_2_16 : decode cJ29_init_2 16 = .ok (.athrow, 1) := dk_191 (dk_at dksJ29_init_2_0 16 rfl rfl)
theorem dJ29_init_2_17 : decode cJ29_init_2 17 = .ok (.aload_n 0, 1) := dk_42 (dk_at dksJ29_init_2_0 17 rfl rfl)
theorem dJ29_init_2_18 : decode cJ29_init_2 18 = .ok (.iload_n 1, 1) := dk_27 (dk_at dksJ29_init_2_0 18 rfl rfl)
theorem dJ29_init_2_19 : decode cJ29_init_2 19 = .ok (.anewarray 15, 3) := dk_189 0 15 (dk_at dksJ29_init_2_0 19 rfl rfl)
theorem dJ29_init_2_22 : decode cJ29_init_2 22 = .ok (.putfield 17, 3) := dk_181 0 17 (dk_at dksJ29_init_2_1 0 rfl rfl)
theorem dJ29_init_2_25 : decode cJ29_init_2 25 = .ok (.aload_n 0, 1) := dk_42 (dk_at dksJ29_init_2_1 3 rfl rfl)
theorem dJ29_init_2_26 : decode cJ29_init_2 26 = .ok (.aload_n 2, 1) := dk_44 (dk_at dksJ29_init_2_1 4 rfl rfl)
theorem dJ29_init_2_27 : decode cJ29_init_2 27 = .ok (.putfield 21, 3) := dk_181 0 21 (dk_at dksJ29_init_2_1 5 rfl rfl)
theorem dJ29_init_2_30 : decode cJ29_init_2 30 = .ok (.return_, 1) := dk_177 (dk_at dksJ29_init_2_1 8 rfl rfl)
abbrev cJ29_add : ByteArray := prog_55_method_13_code
def yJ29_add : MethodName := ⟨RJ29, "add", "(Ljava/lang/Object;)Z"⟩
def dkwJ29_add_0 : List UInt8 := [42, 43, 182, 0, 89, 172]
abbrev dktJ29_add_0 : List UInt8 := dkwJ29_add_0 ++ []
theorem dksJ29_add_0 : cJ29_add.data.toList.drop 0 = dktJ29_add_0 := by decide +kernel
theorem dJ29_add_0 : decode cJ29_add 0 = .ok (.aload_n 0, 1) := dk_42 (dk_at dksJ29_add_0 0 rfl rfl)
theorem dJ29_add_1 : decode cJ29_add 1 = .ok (.aload_n 1, 1) := dk_43 (dk_at dksJ29_add_0 1 rfl rfl)
theorem dJ29_add_2 : decode cJ29_add 2 = .ok (.invokevirtual 89, 3) := dk_182 0 89 (dk_at dksJ29_add_0 2 rfl rfl)
theorem dJ29_add_5 : decode cJ29_add 5 = .ok (.ireturn, 1) := dk_172 (dk_at dksJ29_add_0 5 rfl rfl)
abbrev cJ29_offer : ByteArray := prog_55_method_14_code
def yJ29_offer : MethodName := ⟨RJ29, "offer", "(Ljava/lang/Object;)Z"⟩
def dkwJ29_offer_2 : List UInt8 := [182, 0, 100, 42, 28, 4, 96, 181, 0, 58, 4, 172]
abbrev dktJ29_offer_2 : List UInt8 := dkwJ29_offer_2 ++ []
def dkwJ29_offer_1 : List UInt8 := [180, 0, 58, 61, 28, 42, 180, 0, 17, 190, 161, 0, 10, 42, 28, 4, 96, 182, 0, 96, 42, 28, 43]
abbrev dktJ29_offer_1 : List UInt8 := dkwJ29_offer_1 ++ dktJ29_offer_2
def dkwJ29_offer_0 : List UInt8 := [43, 199, 0, 11, 187, 0, 74, 89, 183, 0, 76, 191, 42, 89, 180, 0, 93, 4, 96, 181, 0, 93, 42]
abbrev dktJ29_offer_0 : List UInt8 := dkwJ29_offer_0 ++ dktJ29_offer_1
theorem dksJ29_offer_0 : cJ29_offer.data.toList.drop 0 = dktJ29_offer_0 := by decide +kernel
theorem dksJ29_offer_1 : cJ29_offer.data.toList.drop 23 = dktJ29_offer_1 := dk_seg dksJ29_offer_0 23 rfl rfl
theorem dksJ29_offer_2 : cJ29_offer.data.toList.drop 46 = dktJ29_offer_2 := dk_seg dksJ29_offer_1 23 rfl rfl
theorem dJ29_offer_0 : decode cJ29_offer 0 = .ok (.aload_n 1, 1) := dk_43 (dk_at dksJ29_offer_0 0 rfl rfl)
theorem dJ29_offer_1 : decode cJ29_offer 1 = .ok (.ifnonnull 11, 3) := dk_199 0 11 (dk_at dksJ29_offer_0 1 rfl rfl)
theorem dJ29_offer_4 : decode cJ29_offer 4 = .ok (.new 74, 3) := dk_187 0 74 (dk_at dksJ29_offer_0 4 rfl rfl)
theorem dJ29_offer_7 : decode cJ29_offer 7 = .ok (.dup, 1) := dk_89 (dk_at dksJ29_offer_0 7 rfl rfl)
theorem dJ29_offer_8 : decode cJ29_offer 8 = .ok (.invokespecial 76, 3) := dk_183 0 76 (dk_at dksJ29_offer_0 8 rfl rfl)
theorem dJ29_offer_11 : decode cJ29_offer 11 = .ok (.athrow, 1) := dk_191 (dk_at dksJ29_offer_0 11 rfl rfl)
theorem dJ29_offer_12 : decode cJ29_offer 12 = .ok (.aload_n 0, 1) := dk_42 (dk_at dksJ29_offer_0 12 rfl rfl)
theorem dJ29_offer_13 : decode cJ29_offer 13 = .ok (.dup, 1) := dk_89 (dk_at dksJ29_offer_0 13 rfl rfl)
theorem dJ29_offer_14 : decode cJ29_offer 14 = .ok (.getfield 93, 3) := dk_180 0 93 (dk_at dksJ29_offer_0 14 rfl rfl)
theorem dJ29_offer_17 : decode cJ29_offer 17 = .ok (.iconst 1, 1) := dk_4 (dk_at dksJ29_offer_0 17 rfl rfl)
theorem dJ29_offer_18 : decode cJ29_offer 18 = .ok (.iadd, 1) := dk_96 (dk_at dksJ29_offer_0 18 rfl rfl)
theorem dJ29_offer_19 : decode cJ29_offer 19 = .ok (.putfield 93, 3) := dk_181 0 93 (dk_at dksJ29_offer_0 19 rfl rfl)
theorem dJ29_offer_22 : decode cJ29_offer 22 = .ok (.aload_n 0, 1) := dk_42 (dk_at dksJ29_offer_0 22 rfl rfl)
theorem dJ29_offer_23 : decode cJ29_offer 23 = .ok (.getfield 58, 3) := dk_180 0 58 (dk_at dksJ29_offer_1 0 rfl rfl)
theorem dJ29_offer_26 : decode cJ29_offer 26 = .ok (.istore_n 2, 1) := dk_61 (dk_at dksJ29_offer_1 3 rfl rfl)
theorem dJ29_offer_27 : decode cJ29_offer 27 = .ok (.iload_n 2, 1) := dk_28 (dk_at dksJ29_offer_1 4 rfl rfl)
theorem dJ29_offer_28 : decode cJ29_offer 28 = .ok (.aload_n 0, 1) := dk_42 (dk_at dksJ29_offer_1 5 rfl rfl)
theorem dJ29_offer_29 : decode cJ29_offer 29 = .ok (.getfield 17, 3) := dk_180 0 17 (dk_at dksJ29_offer_1 6 rfl rfl)
theorem dJ29_offer_32 : decode cJ29_offer 32 = .ok (.arraylength, 1) := dk_190 (dk_at dksJ29_offer_1 9 rfl rfl)
theorem dJ29_offer_33 : decode cJ29_offer 33 = .ok (.if_icmp .lt 10, 3) := dk_161 0 10 (dk_at dksJ29_offer_1 10 rfl rfl)
theorem dJ29_offer_36 : decode cJ29_offer 36 = .ok (.aload_n 0, 1) := dk_42 (dk_at dksJ29_offer_1 13 rfl rfl)
theorem dJ29_offer_37 : decode cJ29_offer 37 = .ok (.iload_n 2, 1) := dk_28 (dk_at dksJ29_offer_1 14 rfl rfl)
theorem dJ29_offer_38 : decode cJ29_offer 38 = .ok (.iconst 1, 1) := dk_4 (dk_at dksJ29_offer_1 15 rfl rfl)
theorem dJ29_offer_39 : decode cJ29_offer 39 = .ok (.iadd, 1) := dk_96 (dk_at dksJ29_offer_1 16 rfl rfl)
theorem dJ29_offer_40 : decode cJ29_offer 40 = .ok (.invokevirtual 96, 3) := dk_182 0 96 (dk_at dksJ29_offer_1 17 rfl rfl)
theorem dJ29_offer_43 : decode cJ29_offer 43 = .ok (.aload_n 0, 1) := dk_42 (dk_at dksJ29_offer_1 20 rfl rfl)
theorem dJ29_offer_44 : decode cJ29_offer 44 = .ok (.iload_n 2, 1) := dk_28 (dk_at dksJ29_offer_1 21 rfl rfl)
theorem dJ29_offer_45 : decode cJ29_offer 45 = .ok (.aload_n 1, 1) := dk_43 (dk_at dksJ29_offer_1 22 rfl rfl)
theorem dJ29_offer_46 : decode cJ29_offer 46 = .ok (.invokevirtual 100, 3) := dk_182 0 100 (dk_at dksJ29_offer_2 0 rfl rfl)
theorem dJ29_offer_49 : decode cJ29_offer 49 = .ok (.aload_n 0, 1) := dk_42 (dk_at dksJ29_offer_2 3 rfl rfl)
theorem dJ29_offer_50 : decode cJ29_offer 50 = .ok (.iload_n 2, 1) := dk_28 (dk_at dksJ29_offer_2 4 rfl rfl)
theorem dJ29_offer_51 : decode cJ29_offer 51 = .ok (.iconst 1, 1) := dk_4 (dk_at dksJ29_offer_2 5 rfl rfl)
theorem dJ29_offer_52 : decode cJ29_offer 52 = .ok (.iadd, 1) := dk_96 (dk_at dksJ29_offer_2 6 rfl rfl)
theorem dJ29_offer_53 : decode cJ29_offer 53 = .ok (.putfield 58, 3) := dk_181 0 58 (dk_at dksJ29_offer_2 7 rfl rfl)
theorem dJ29_offer_56 : decode cJ29_offer 56 = .ok (.iconst 1, 1) := dk_4 (dk_at dksJ29_offer_2 10 rfl rfl)
theorem dJ29_offer_57 : decode cJ29_offer 57 = .ok (.ireturn, 1) := dk_172 (dk_at dksJ29_offer_2 11 rfl rfl)
abbrev cJ29_grow : ByteArray := prog_55_method_12_code
def yJ29_grow : MethodName := ⟨RJ29, "grow", "(I)V"⟩
def dkwJ29_grow_1 : List UInt8 := [122, 184, 0, 80, 62, 42, 42, 180, 0, 17, 29, 184, 0, 86, 181, 0, 17, 177]
abbrev dktJ29_grow_1 : List UInt8 := dkwJ29_grow_1 ++ []
def dkwJ29_grow_0 : List UInt8 := [42, 180, 0, 17, 190, 61, 28, 27, 28, 100, 28, 16, 64, 162, 0, 9, 28, 5, 96, 167, 0, 6, 28, 4]
abbrev dktJ29_grow_0 : List UInt8 := dkwJ29_grow_0 ++ dktJ29_grow_1
theorem dksJ29_grow_0 : cJ29_grow.data.toList.drop 0 = dktJ29_grow_0 := by decide +kernel
theorem dksJ29_grow_1 : cJ29_grow.data.toList.drop 24 = dktJ29_grow_1 := dk_seg dksJ29_grow_0 24 rfl rfl
theorem dJ29_grow_0 : decode cJ29_grow 0 = .ok (.aload_n 0, 1) := dk_42 (dk_at dksJ29_grow_0 0 rfl rfl)
theorem dJ29_grow_1 : decode cJ29_grow 1 = .ok (.getfield 17, 3) := dk_180 0 17 (dk_at dksJ29_grow_0 1 rfl rfl)
theorem dJ29_grow_4 : decode cJ29_grow 4 = .ok (.arraylength, 1) := dk_190 (dk_at dksJ29_grow_0 4 rfl rfl)
theorem dJ29_grow_5 : decode cJ29_grow 5 = .ok (.istore_n 2, 1) := dk_61 (dk_at dksJ29_grow_0 5 rfl rfl)
theorem dJ29_grow_6 : decode cJ29_grow 6 = .ok (.iload_n 2, 1) := dk_28 (dk_at dksJ29_grow_0 6 rfl rfl)
theorem dJ29_grow_7 : decode cJ29_grow 7 = .ok (.iload_n 1, 1) := dk_27 (dk_at dksJ29_grow_0 7 rfl rfl)
theorem dJ29_grow_8 : decode cJ29_grow 8 = .ok (.iload_n 2, 1) := dk_28 (dk_at dksJ29_grow_0 8 rfl rfl)
theorem dJ29_grow_9 : decode cJ29_grow 9 = .ok (.isub, 1) := dk_100 (dk_at dksJ29_grow_0 9 rfl rfl)
theorem dJ29_grow_10 : decode cJ29_grow 10 = .ok (.iload_n 2, 1) := dk_28 (dk_at dksJ29_grow_0 10 rfl rfl)
theorem dJ29_grow_11 : decode cJ29_grow 11 = .ok (.bipush 64, 2) := dk_16 64 (dk_at dksJ29_grow_0 11 rfl rfl)
theorem dJ29_grow_13 : decode cJ29_grow 13 = .ok (.if_icmp .ge 9, 3) := dk_162 0 9 (dk_at dksJ29_grow_0 13 rfl rfl)
theorem dJ29_grow_16 : decode cJ29_grow 16 = .ok (.iload_n 2, 1) := dk_28 (dk_at dksJ29_grow_0 16 rfl rfl)
theorem dJ29_grow_17 : decode cJ29_grow 17 = .ok (.iconst 2, 1) := dk_5 (dk_at dksJ29_grow_0 17 rfl rfl)
theorem dJ29_grow_18 : decode cJ29_grow 18 = .ok (.iadd, 1) := dk_96 (dk_at dksJ29_grow_0 18 rfl rfl)
theorem dJ29_grow_19 : decode cJ29_grow 19 = .ok (.goto 6, 3) := dk_167 0 6 (dk_at dksJ29_grow_0 19 rfl rfl)
theorem dJ29_grow_22 : decode cJ29_grow 22 = .ok (.iload_n 2, 1) := dk_28 (dk_at dksJ29_grow_0 22 rfl rfl)
theorem dJ29_grow_23 : decode cJ29_grow 23 = .ok (.iconst 1, 1) := dk_4 (dk_at dksJ29_grow_0 23 rfl rfl)
theorem dJ29_grow_24 : decode cJ29_grow 24 = .ok (.ishr, 1) := dk_122 (dk_at dksJ29_grow_1 0 rfl rfl)
theorem dJ29_grow_25 : decode cJ29_grow 25 = .ok (.invokestatic 80, 3) := dk_184 0 80 (dk_at dksJ29_grow_1 1 rfl rfl)
theorem dJ29_grow_28 : decode cJ29_grow 28 = .ok (.istore_n 3, 1) := dk_62 (dk_at dksJ29_grow_1 4 rfl rfl)
theorem dJ29_grow_29 : decode cJ29_grow 29 = .ok (.aload_n 0, 1) := dk_42 (dk_at dksJ29_grow_1 5 rfl rfl)
theorem dJ29_grow_30 : decode cJ29_grow 30 = .ok (.aload_n 0, 1) := dk_42 (dk_at dksJ29_grow_1 6 rfl rfl)
theorem dJ29_grow_31 : decode cJ29_grow 31 = .ok (.getfield 17, 3) := dk_180 0 17 (dk_at dksJ29_grow_1 7 rfl rfl)
theorem dJ29_grow_34 : decode cJ29_grow 34 = .ok (.iload_n 3, 1) := dk_29 (dk_at dksJ29_grow_1 10 rfl rfl)
theorem dJ29_grow_35 : decode cJ29_grow 35 = .ok (.invokestatic 86, 3) := dk_184 0 86 (dk_at dksJ29_grow_1 11 rfl rfl)
theorem dJ29_grow_38 : decode cJ29_grow 38 = .ok (.putfield 17, 3) := dk_181 0 17 (dk_at dksJ29_grow_1 14 rfl rfl)
theorem dJ29_grow_41 : decode cJ29_grow 41 = .ok (.return_, 1) := dk_177 (dk_at dksJ29_grow_1 17 rfl rfl)
abbrev cJ29_siftUp : ByteArray := prog_55_method_27_code
def yJ29_siftUp : MethodName := ⟨RJ29, "siftUp", "(ILjava/lang/Object;)V"⟩
def dkwJ29_siftUp_1 : List UInt8 := [44, 42, 180, 0, 17, 184, 0, 140, 177]
abbrev dktJ29_siftUp_1 : List UInt8 := dkwJ29_siftUp_1 ++ []
def dkwJ29_siftUp_0 : List UInt8 := [42, 180, 0, 21, 198, 0, 19, 27, 44, 42, 180, 0, 17, 42, 180, 0, 21, 184, 0, 136, 167, 0, 12, 27]
abbrev dktJ29_siftUp_0 : List UInt8 := dkwJ29_siftUp_0 ++ dktJ29_siftUp_1
theorem dksJ29_siftUp_0 : cJ29_siftUp.data.toList.drop 0 = dktJ29_siftUp_0 := by decide +kernel
theorem dksJ29_siftUp_1 : cJ29_siftUp.data.toList.drop 24 = dktJ29_siftUp_1 := dk_seg dksJ29_siftUp_0 24 rfl rfl
theorem dJ29_siftUp_0 : decode cJ29_siftUp 0 = .ok (.aload_n 0, 1) := dk_42 (dk_at dksJ29_siftUp_0 0 rfl rfl)
theorem dJ29_siftUp_1 : decode cJ29_siftUp 1 = .ok (.getfield 21, 3) := dk_180 0 21 (dk_at dksJ29_siftUp_0 1 rfl rfl)
theorem dJ29_siftUp_4 : decode cJ29_siftUp 4 = .ok (.ifnull 19, 3) := dk_198 0 19 (dk_at dksJ29_siftUp_0 4 rfl rfl)
theorem dJ29_siftUp_7 : decode cJ29_siftUp 7 = .ok (.iload_n 1, 1) := dk_27 (dk_at dksJ29_siftUp_0 7 rfl rfl)
theorem dJ29_siftUp_8 : decode cJ29_siftUp 8 = .ok (.aload_n 2, 1) := dk_44 (dk_at dksJ29_siftUp_0 8 rfl rfl)
theorem dJ29_siftUp_9 : decode cJ29_siftUp 9 = .ok (.aload_n 0, 1) := dk_42 (dk_at dksJ29_siftUp_0 9 rfl rfl)
theorem dJ29_siftUp_10 : decode cJ29_siftUp 10 = .ok (.getfield 17, 3) := dk_180 0 17 (dk_at dksJ29_siftUp_0 10 rfl rfl)
theorem dJ29_siftUp_13 : decode cJ29_siftUp 13 = .ok (.aload_n 0, 1) := dk_42 (dk_at dksJ29_siftUp_0 13 rfl rfl)
theorem dJ29_siftUp_14 : decode cJ29_siftUp 14 = .ok (.getfield 21, 3) := dk_180 0 21 (dk_at dksJ29_siftUp_0 14 rfl rfl)
theorem dJ29_siftUp_17 : decode cJ29_siftUp 17 = .ok (.invokestatic 136, 3) := dk_184 0 136 (dk_at dksJ29_siftUp_0 17 rfl rfl)
theorem dJ29_siftUp_20 : decode cJ29_siftUp 20 = .ok (.goto 12, 3) := dk_167 0 12 (dk_at dksJ29_siftUp_0 20 rfl rfl)
theorem dJ29_siftUp_23 : decode cJ29_siftUp 23 = .ok (.iload_n 1, 1) := dk_27 (dk_at dksJ29_siftUp_0 23 rfl rfl)
theorem dJ29_siftUp_24 : decode cJ29_siftUp 24 = .ok (.aload_n 2, 1) := dk_44 (dk_at dksJ29_siftUp_1 0 rfl rfl)
theorem dJ29_siftUp_25 : decode cJ29_siftUp 25 = .ok (.aload_n 0, 1) := dk_42 (dk_at dksJ29_siftUp_1 1 rfl rfl)
theorem dJ29_siftUp_26 : decode cJ29_siftUp 26 = .ok (.getfield 17, 3) := dk_180 0 17 (dk_at dksJ29_siftUp_1 2 rfl rfl)
theorem dJ29_siftUp_29 : decode cJ29_siftUp 29 = .ok (.invokestatic 140, 3) := dk_184 0 140 (dk_at dksJ29_siftUp_1 5 rfl rfl)
theorem dJ29_siftUp_32 : decode cJ29_siftUp 32 = .ok (.return_, 1) := dk_177 (dk_at dksJ29_siftUp_1 8 rfl rfl)
abbrev cJ29_siftUpUsingComparator : ByteArray := prog_55_method_29_code
def yJ29_siftUpUsingComparator : MethodName := ⟨RJ29, "siftUpUsingComparator", "(ILjava/lang/Object;[Ljava/lang/Object;Ljava/util/Comparator;)V"⟩
def dkwJ29_siftUpUsingComparator_2 : List UInt8 := [43, 83, 177]
abbrev dktJ29_siftUpUsingComparator_2 : List UInt8 := dkwJ29_siftUpUsingComparator_2 ++ []
def dkwJ29_siftUpUsingComparator_1 : List UInt8 := [185, 0, 149, 3, 0, 155, 0, 6, 167, 0, 14, 44, 26, 25, 5, 83, 21, 4, 59, 167, 255, 216, 44, 26]
abbrev dktJ29_siftUpUsingComparator_1 : List UInt8 := dkwJ29_siftUpUsingComparator_1 ++ dktJ29_siftUpUsingComparator_2
def dkwJ29_siftUpUsingComparator_0 : List UInt8 := [26, 158, 0, 42, 26, 4, 100, 4, 124, 54, 4, 44, 21, 4, 50, 58, 5, 45, 43, 25, 5]
abbrev dktJ29_siftUpUsingComparator_0 : List UInt8 := dkwJ29_siftUpUsingComparator_0 ++ dktJ29_siftUpUsingComparator_1
theorem dksJ29_siftUpUsingComparator_0 : cJ29_siftUpUsingComparator.data.toList.drop 0 = dktJ29_siftUpUsingComparator_0 := by decide +kernel
theorem dksJ29_siftUpUsingComparator_1 : cJ29_siftUpUsingComparator.data.toList.drop 21 = dktJ29_siftUpUsingComparator_1 := dk_seg dksJ29_siftUpUsingComparator_0 21 rfl rfl
theorem dksJ29_siftUpUsingComparator_2 : cJ29_siftUpUsingComparator.data.toList.drop 45 = dktJ29_siftUpUsingComparator_2 := dk_seg dksJ29_siftUpUsingComparator_1 24 rfl rfl
theorem dJ29_siftUpUsingComparator_0 : decode cJ29_siftUpUsingComparator 0 = .ok (.iload_n 0, 1) := dk_26 (dk_at dksJ29_siftUpUsingComparator_0 0 rfl rfl)
theorem dJ29_siftUpUsingComparator_1 : decode cJ29_siftUpUsingComparator 1 = .ok (.ifCond .le 42, 3) := dk_158 0 42 (dk_at dksJ29_siftUpUsingComparator_0 1 rfl rfl)
theorem dJ29_siftUpUsingComparator_4 : decode cJ29_siftUpUsingComparator 4 = .ok (.iload_n 0, 1) := dk_26 (dk_at dksJ29_siftUpUsingComparator_0 4 rfl rfl)
theorem dJ29_siftUpUsingComparator_5 : decode cJ29_siftUpUsingComparator 5 = .ok (.iconst 1, 1) := dk_4 (dk_at dksJ29_siftUpUsingComparator_0 5 rfl rfl)
theorem dJ29_siftUpUsingComparator_6 : decode cJ29_siftUpUsingComparator 6 = .ok (.isub, 1) := dk_100 (dk_at dksJ29_siftUpUsingComparator_0 6 rfl rfl)
theorem dJ29_siftUpUsingComparator_7 : decode cJ29_siftUpUsingComparator 7 = .ok (.iconst 1, 1) := dk_4 (dk_at dksJ29_siftUpUsingComparator_0 7 rfl rfl)
theorem dJ29_siftUpUsingComparator_8 : decode cJ29_siftUpUsingComparator 8 = .ok (.iushr, 1) := dk_124 (dk_at dksJ29_siftUpUsingComparator_0 8 rfl rfl)
theorem dJ29_siftUpUsingComparator_9 : decode cJ29_siftUpUsingComparator 9 = .ok (.istore 4, 2) := dk_54 4 (dk_at dksJ29_siftUpUsingComparator_0 9 rfl rfl)
theorem dJ29_siftUpUsingComparator_11 : decode cJ29_siftUpUsingComparator 11 = .ok (.aload_n 2, 1) := dk_44 (dk_at dksJ29_siftUpUsingComparator_0 11 rfl rfl)
theorem dJ29_siftUpUsingComparator_12 : decode cJ29_siftUpUsingComparator 12 = .ok (.iload 4, 2) := dk_21 4 (dk_at dksJ29_siftUpUsingComparator_0 12 rfl rfl)
theorem dJ29_siftUpUsingComparator_14 : decode cJ29_siftUpUsingComparator 14 = .ok (.aaload, 1) := dk_50 (dk_at dksJ29_siftUpUsingComparator_0 14 rfl rfl)
theorem dJ29_siftUpUsingComparator_15 : decode cJ29_siftUpUsingComparator 15 = .ok (.astore 5, 2) := dk_58 5 (dk_at dksJ29_siftUpUsingComparator_0 15 rfl rfl)
theorem dJ29_siftUpUsingComparator_17 : decode cJ29_siftUpUsingComparator 17 = .ok (.aload_n 3, 1) := dk_45 (dk_at dksJ29_siftUpUsingComparator_0 17 rfl rfl)
theorem dJ29_siftUpUsingComparator_18 : decode cJ29_siftUpUsingComparator 18 = .ok (.aload_n 1, 1) := dk_43 (dk_at dksJ29_siftUpUsingComparator_0 18 rfl rfl)
theorem dJ29_siftUpUsingComparator_19 : decode cJ29_siftUpUsingComparator 19 = .ok (.aload 5, 2) := dk_25 5 (dk_at dksJ29_siftUpUsingComparator_0 19 rfl rfl)
theorem dJ29_siftUpUsingComparator_21 : decode cJ29_siftUpUsingComparator 21 = .ok (.invokeinterface 149 3, 5) := by decide +kernel
theorem dJ29_siftUpUsingComparator_26 : decode cJ29_siftUpUsingComparator 26 = .ok (.ifCond .lt 6, 3) := dk_155 0 6 (dk_at dksJ29_siftUpUsingComparator_1 5 rfl rfl)
theorem dJ29_siftUpUsingComparator_29 : decode cJ29_siftUpUsingComparator 29 = .ok (.goto 14, 3) := dk_167 0 14 (dk_at dksJ29_siftUpUsingComparator_1 8 rfl rfl)
theorem dJ29_siftUpUsingComparator_32 : decode cJ29_siftUpUsingComparator 32 = .ok (.aload_n 2, 1) := dk_44 (dk_at dksJ29_siftUpUsingComparator_1 11 rfl rfl)
theorem dJ29_siftUpUsingComparator_33 : decode cJ29_siftUpUsingComparator 33 = .ok (.iload_n 0, 1) := dk_26 (dk_at dksJ29_siftUpUsingComparator_1 12 rfl rfl)
theorem dJ29_siftUpUsingComparator_34 : decode cJ29_siftUpUsingComparator 34 = .ok (.aload 5, 2) := dk_25 5 (dk_at dksJ29_siftUpUsingComparator_1 13 rfl rfl)
theorem dJ29_siftUpUsingComparator_36 : decode cJ29_siftUpUsingComparator 36 = .ok (.aastore, 1) := dk_83 (dk_at dksJ29_siftUpUsingComparator_1 15 rfl rfl)
theorem dJ29_siftUpUsingComparator_37 : decode cJ29_siftUpUsingComparator 37 = .ok (.iload 4, 2) := dk_21 4 (dk_at dksJ29_siftUpUsingComparator_1 16 rfl rfl)
theorem dJ29_siftUpUsingComparator_39 : decode cJ29_siftUpUsingComparator 39 = .ok (.istore_n 0, 1) := dk_59 (dk_at dksJ29_siftUpUsingComparator_1 18 rfl rfl)
theorem dJ29_siftUpUsingComparator_40 : decode cJ29_siftUpUsingComparator 40 = .ok (.goto (-40), 3) := dk_167 255 216 (dk_at dksJ29_siftUpUsingComparator_1 19 rfl rfl)
theorem dJ29_siftUpUsingComparator_43 : decode cJ29_siftUpUsingComparator 43 = .ok (.aload_n 2, 1) := dk_44 (dk_at dksJ29_siftUpUsingComparator_1 22 rfl rfl)
theorem dJ29_siftUpUsingComparator_44 : decode cJ29_siftUpUsingComparator 44 = .ok (.iload_n 0, 1) := dk_26 (dk_at dksJ29_siftUpUsingComparator_1 23 rfl rfl)
theorem dJ29_siftUpUsingComparator_45 : decode cJ29_siftUpUsingComparator 45 = .ok (.aload_n 1, 1) := dk_43 (dk_at dksJ29_siftUpUsingComparator_2 0 rfl rfl)
theorem dJ29_siftUpUsingComparator_46 : decode cJ29_siftUpUsingComparator 46 = .ok (.aastore, 1) := dk_83 (dk_at dksJ29_siftUpUsingComparator_2 1 rfl rfl)
theorem dJ29_siftUpUsingComparator_47 : decode cJ29_siftUpUsingComparator 47 = .ok (.return_, 1) := dk_177 (dk_at dksJ29_siftUpUsingComparator_2 2 rfl rfl)
abbrev cJ29_size : ByteArray := prog_55_method_23_code
def yJ29_size : MethodName := ⟨RJ29, "size", "()I"⟩
theorem dJ29_size_0 : decode cJ29_size 0 = .ok (.aload_n 0, 1) := by decide +kernel
theorem dJ29_size_1 : decode cJ29_size 1 = .ok (.getfield 58, 3) := by decide +kernel
theorem dJ29_size_4 : decode cJ29_size 4 = .ok (.ireturn, 1) := by decide +kernel
abbrev cJ29_poll : ByteArray := prog_55_method_25_code
def yJ29_poll : MethodName := ⟨RJ29, "poll", "()Ljava/lang/Object;"⟩
def dkwJ29_poll_3 : List UInt8 := [43, 29, 25, 5, 184, 0, 129, 44, 176]
abbrev dktJ29_poll_3 : List UInt8 := dkwJ29_poll_3 ++ []
def dkwJ29_poll_2 : List UInt8 := [42, 180, 0, 21, 89, 58, 5, 199, 0, 14, 3, 25, 4, 43, 29, 184, 0, 125, 167, 0, 13, 3, 25, 4]
abbrev dktJ29_poll_2 : List UInt8 := dkwJ29_poll_2 ++ dktJ29_poll_3
def dkwJ29_poll_1 : List UInt8 := [42, 89, 180, 0, 58, 4, 100, 90, 181, 0, 58, 89, 62, 50, 58, 4, 43, 29, 1, 83, 29, 158, 0, 34]
abbrev dktJ29_poll_1 : List UInt8 := dkwJ29_poll_1 ++ dktJ29_poll_2
def dkwJ29_poll_0 : List UInt8 := [42, 180, 0, 17, 89, 76, 3, 50, 89, 77, 198, 0, 69, 42, 89, 180, 0, 93, 4, 96, 181, 0, 93, 43]
abbrev dktJ29_poll_0 : List UInt8 := dkwJ29_poll_0 ++ dktJ29_poll_1
theorem dksJ29_poll_0 : cJ29_poll.data.toList.drop 0 = dktJ29_poll_0 := by decide +kernel
theorem dksJ29_poll_1 : cJ29_poll.data.toList.drop 24 = dktJ29_poll_1 := dk_seg dksJ29_poll_0 24 rfl rfl
theorem dksJ29_poll_2 : cJ29_poll.data.toList.drop 48 = dktJ29_poll_2 := dk_seg dksJ29_poll_1 24 rfl rfl
theorem dksJ29_poll_3 : cJ29_poll.data.toList.drop 72 = dktJ29_poll_3 := dk_seg dksJ29_poll_2 24 rfl rfl
theorem dJ29_poll_0 : decode cJ29_poll 0 = .ok (.aload_n 0, 1) := dk_42 (dk_at dksJ29_poll_0 0 rfl rfl)
theorem dJ29_poll_1 : decode cJ29_poll 1 = .ok (.getfield 17, 3) := dk_180 0 17 (dk_at dksJ29_poll_0 1 rfl rfl)
theorem dJ29_poll_4 : decode cJ29_poll 4 = .ok (.dup, 1) := dk_89 (dk_at dksJ29_poll_0 4 rfl rfl)
theorem dJ29_poll_5 : decode cJ29_poll 5 = .ok (.astore_n 1, 1) := dk_76 (dk_at dksJ29_poll_0 5 rfl rfl)
theorem dJ29_poll_6 : decode cJ29_poll 6 = .ok (.iconst 0, 1) := dk_3 (dk_at dksJ29_poll_0 6 rfl rfl)
theorem dJ29_poll_7 : decode cJ29_poll 7 = .ok (.aaload, 1) := dk_50 (dk_at dksJ29_poll_0 7 rfl rfl)
theorem dJ29_poll_8 : decode cJ29_poll 8 = .ok (.dup, 1) := dk_89 (dk_at dksJ29_poll_0 8 rfl rfl)
theorem dJ29_poll_9 : decode cJ29_poll 9 = .ok (.astore_n 2, 1) := dk_77 (dk_at dksJ29_poll_0 9 rfl rfl)
theorem dJ29_poll_10 : decode cJ29_poll 10 = .ok (.ifnull 69, 3) := dk_198 0 69 (dk_at dksJ29_poll_0 10 rfl rfl)
theorem dJ29_poll_13 : decode cJ29_poll 13 = .ok (.aload_n 0, 1) := dk_42 (dk_at dksJ29_poll_0 13 rfl rfl)
theorem dJ29_poll_14 : decode cJ29_poll 14 = .ok (.dup, 1) := dk_89 (dk_at dksJ29_poll_0 14 rfl rfl)
theorem dJ29_poll_15 : decode cJ29_poll 15 = .ok (.getfield 93, 3) := dk_180 0 93 (dk_at dksJ29_poll_0 15 rfl rfl)
theorem dJ29_poll_18 : decode cJ29_poll 18 = .ok (.iconst 1, 1) := dk_4 (dk_at dksJ29_poll_0 18 rfl rfl)
theorem dJ29_poll_19 : decode cJ29_poll 19 = .ok (.iadd, 1) := dk_96 (dk_at dksJ29_poll_0 19 rfl rfl)
theorem dJ29_poll_20 : decode cJ29_poll 20 = .ok (.putfield 93, 3) := dk_181 0 93 (dk_at dksJ29_poll_0 20 rfl rfl)
theorem dJ29_poll_23 : decode cJ29_poll 23 = .ok (.aload_n 1, 1) := dk_43 (dk_at dksJ29_poll_0 23 rfl rfl)
theorem dJ29_poll_24 : decode cJ29_poll 24 = .ok (.aload_n 0, 1) := dk_42 (dk_at dksJ29_poll_1 0 rfl rfl)
theorem dJ29_poll_25 : decode cJ29_poll 25 = .ok (.dup, 1) := dk_89 (dk_at dksJ29_poll_1 1 rfl rfl)
theorem dJ29_poll_26 : decode cJ29_poll 26 = .ok (.getfield 58, 3) := dk_180 0 58 (dk_at dksJ29_poll_1 2 rfl rfl)
theorem dJ29_poll_29 : decode cJ29_poll 29 = .ok (.iconst 1, 1) := dk_4 (dk_at dksJ29_poll_1 5 rfl rfl)
theorem dJ29_poll_30 : decode cJ29_poll 30 = .ok (.isub, 1) := dk_100 (dk_at dksJ29_poll_1 6 rfl rfl)
theorem dJ29_poll_31 : decode cJ29_poll 31 = .ok (.dup_x1, 1) := dk_90 (dk_at dksJ29_poll_1 7 rfl rfl)
theorem dJ29_poll_32 : decode cJ29_poll 32 = .ok (.putfield 58, 3) := dk_181 0 58 (dk_at dksJ29_poll_1 8 rfl rfl)
theorem dJ29_poll_35 : decode cJ29_poll 35 = .ok (.dup, 1) := dk_89 (dk_at dksJ29_poll_1 11 rfl rfl)
theorem dJ29_poll_36 : decode cJ29_poll 36 = .ok (.istore_n 3, 1) := dk_62 (dk_at dksJ29_poll_1 12 rfl rfl)
theorem dJ29_poll_37 : decode cJ29_poll 37 = .ok (.aaload, 1) := dk_50 (dk_at dksJ29_poll_1 13 rfl rfl)
theorem dJ29_poll_38 : decode cJ29_poll 38 = .ok (.astore 4, 2) := dk_58 4 (dk_at dksJ29_poll_1 14 rfl rfl)
theorem dJ29_poll_40 : decode cJ29_poll 40 = .ok (.aload_n 1, 1) := dk_43 (dk_at dksJ29_poll_1 16 rfl rfl)
theorem dJ29_poll_41 : decode cJ29_poll 41 = .ok (.iload_n 3, 1) := dk_29 (dk_at dksJ29_poll_1 17 rfl rfl)
theorem dJ29_poll_42 : decode cJ29_poll 42 = .ok (.aconst_null, 1) := dk_1 (dk_at dksJ29_poll_1 18 rfl rfl)
theorem dJ29_poll_43 : decode cJ29_poll 43 = .ok (.aastore, 1) := dk_83 (dk_at dksJ29_poll_1 19 rfl rfl)
theorem dJ29_poll_44 : decode cJ29_poll 44 = .ok (.iload_n 3, 1) := dk_29 (dk_at dksJ29_poll_1 20 rfl rfl)
theorem dJ29_poll_45 : decode cJ29_poll 45 = .ok (.ifCond .le 34, 3) := dk_158 0 34 (dk_at dksJ29_poll_1 21 rfl rfl)
theorem dJ29_poll_48 : decode cJ29_poll 48 = .ok (.aload_n 0, 1) := dk_42 (dk_at dksJ29_poll_2 0 rfl rfl)
theorem dJ29_poll_49 : decode cJ29_poll 49 = .ok (.getfield 21, 3) := dk_180 0 21 (dk_at dksJ29_poll_2 1 rfl rfl)
theorem dJ29_poll_52 : decode cJ29_poll 52 = .ok (.dup, 1) := dk_89 (dk_at dksJ29_poll_2 4 rfl rfl)
theorem dJ29_poll_53 : decode cJ29_poll 53 = .ok (.astore 5, 2) := dk_58 5 (dk_at dksJ29_poll_2 5 rfl rfl)
theorem dJ29_poll_55 : decode cJ29_poll 55 = .ok (.ifnonnull 14, 3) := dk_199 0 14 (dk_at dksJ29_poll_2 7 rfl rfl)
theorem dJ29_poll_58 : decode cJ29_poll 58 = .ok (.iconst 0, 1) := dk_3 (dk_at dksJ29_poll_2 10 rfl rfl)
theorem dJ29_poll_59 : decode cJ29_poll 59 = .ok (.aload 4, 2) := dk_25 4 (dk_at dksJ29_poll_2 11 rfl rfl)
theorem dJ29_poll_61 : decode cJ29_poll 61 = .ok (.aload_n 1, 1) := dk_43 (dk_at dksJ29_poll_2 13 rfl rfl)
theorem dJ29_poll_62 : decode cJ29_poll 62 = .ok (.iload_n 3, 1) := dk_29 (dk_at dksJ29_poll_2 14 rfl rfl)
theorem dJ29_poll_63 : decode cJ29_poll 63 = .ok (.invokestatic 125, 3) := dk_184 0 125 (dk_at dksJ29_poll_2 15 rfl rfl)
theorem dJ29_poll_66 : decode cJ29_poll 66 = .ok (.goto 13, 3) := dk_167 0 13 (dk_at dksJ29_poll_2 18 rfl rfl)
theorem dJ29_poll_69 : decode cJ29_poll 69 = .ok (.iconst 0, 1) := dk_3 (dk_at dksJ29_poll_2 21 rfl rfl)
theorem dJ29_poll_70 : decode cJ29_poll 70 = .ok (.aload 4, 2) := dk_25 4 (dk_at dksJ29_poll_2 22 rfl rfl)
theorem dJ29_poll_72 : decode cJ29_poll 72 = .ok (.aload_n 1, 1) := dk_43 (dk_at dksJ29_poll_3 0 rfl rfl)
theorem dJ29_poll_73 : decode cJ29_poll 73 = .ok (.iload_n 3, 1) := dk_29 (dk_at dksJ29_poll_3 1 rfl rfl)
theorem dJ29_poll_74 : decode cJ29_poll 74 = .ok (.aload 5, 2) := dk_25 5 (dk_at dksJ29_poll_3 2 rfl rfl)
theorem dJ29_poll_76 : decode cJ29_poll 76 = .ok (.invokestatic 129, 3) := dk_184 0 129 (dk_at dksJ29_poll_3 4 rfl rfl)
theorem dJ29_poll_79 : decode cJ29_poll 79 = .ok (.aload_n 2, 1) := dk_44 (dk_at dksJ29_poll_3 7 rfl rfl)
theorem dJ29_poll_80 : decode cJ29_poll 80 = .ok (.areturn, 1) := dk_176 (dk_at dksJ29_poll_3 8 rfl rfl)
abbrev cJ29_siftDownUsingComparator : ByteArray := prog_55_method_32_code
def yJ29_siftDownUsingComparator : MethodName := ⟨RJ29, "siftDownUsingComparator", "(ILjava/lang/Object;[Ljava/lang/Object;ILjava/util/Comparator;)V"⟩
def dkwJ29_siftDownUsingComparator_4 : List UInt8 := [43, 83, 177]
abbrev dktJ29_siftDownUsingComparator_4 : List UInt8 := dkwJ29_siftDownUsingComparator_4 ++ []
def dkwJ29_siftDownUsingComparator_3 : List UInt8 := [185, 0, 149, 3, 0, 157, 0, 6, 167, 0, 14, 44, 26, 25, 7, 83, 21, 6, 59, 167, 255, 176, 44, 26]
abbrev dktJ29_siftDownUsingComparator_3 : List UInt8 := dkwJ29_siftDownUsingComparator_3 ++ dktJ29_siftDownUsingComparator_4
def dkwJ29_siftDownUsingComparator_2 : List UInt8 := [185, 0, 149, 3, 0, 158, 0, 12, 44, 21, 8, 89, 54, 6, 50, 58, 7, 25, 4, 43, 25, 7]
abbrev dktJ29_siftDownUsingComparator_2 : List UInt8 := dkwJ29_siftDownUsingComparator_2 ++ dktJ29_siftDownUsingComparator_3
def dkwJ29_siftDownUsingComparator_1 : List UInt8 := [21, 6, 4, 96, 54, 8, 21, 8, 29, 162, 0, 28, 25, 4, 25, 7, 44, 21, 8, 50]
abbrev dktJ29_siftDownUsingComparator_1 : List UInt8 := dkwJ29_siftDownUsingComparator_1 ++ dktJ29_siftDownUsingComparator_2
def dkwJ29_siftDownUsingComparator_0 : List UInt8 := [29, 4, 124, 54, 5, 26, 21, 5, 162, 0, 80, 26, 4, 120, 4, 96, 54, 6, 44, 21, 6, 50, 58, 7]
abbrev dktJ29_siftDownUsingComparator_0 : List UInt8 := dkwJ29_siftDownUsingComparator_0 ++ dktJ29_siftDownUsingComparator_1
theorem dksJ29_siftDownUsingComparator_0 : cJ29_siftDownUsingComparator.data.toList.drop 0 = dktJ29_siftDownUsingComparator_0 := by decide +kernel
theorem dksJ29_siftDownUsingComparator_1 : cJ29_siftDownUsingComparator.data.toList.drop 24 = dktJ29_siftDownUsingComparator_1 := dk_seg dksJ29_siftDownUsingComparator_0 24 rfl rfl
theorem dksJ29_siftDownUsingComparator_2 : cJ29_siftDownUsingComparator.data.toList.drop 44 = dktJ29_siftDownUsingComparator_2 := dk_seg dksJ29_siftDownUsingComparator_1 20 rfl rfl
theorem dksJ29_siftDownUsingComparator_3 : cJ29_siftDownUsingComparator.data.toList.drop 66 = dktJ29_siftDownUsingComparator_3 := dk_seg dksJ29_siftDownUsingComparator_2 22 rfl rfl
theorem dksJ29_siftDownUsingComparator_4 : cJ29_siftDownUsingComparator.data.toList.drop 90 = dktJ29_siftDownUsingComparator_4 := dk_seg dksJ29_siftDownUsingComparator_3 24 rfl rfl
theorem dJ29_siftDownUsingComparator_0 : decode cJ29_siftDownUsingComparator 0 = .ok (.iload_n 3, 1) := dk_29 (dk_at dksJ29_siftDownUsingComparator_0 0 rfl rfl)
theorem dJ29_siftDownUsingComparator_1 : decode cJ29_siftDownUsingComparator 1 = .ok (.iconst 1, 1) := dk_4 (dk_at dksJ29_siftDownUsingComparator_0 1 rfl rfl)
theorem dJ29_siftDownUsingComparator_2 : decode cJ29_siftDownUsingComparator 2 = .ok (.iushr, 1) := dk_124 (dk_at dksJ29_siftDownUsingComparator_0 2 rfl rfl)
theorem dJ29_siftDownUsingComparator_3 : decode cJ29_siftDownUsingComparator 3 = .ok (.istore 5, 2) := dk_54 5 (dk_at dksJ29_siftDownUsingComparator_0 3 rfl rfl)
theorem dJ29_siftDownUsingComparator_5 : decode cJ29_siftDownUsingComparator 5 = .ok (.iload_n 0, 1) := dk_26 (dk_at dksJ29_siftDownUsingComparator_0 5 rfl rfl)
theorem dJ29_siftDownUsingComparator_6 : decode cJ29_siftDownUsingComparator 6 = .ok (.iload 5, 2) := dk_21 5 (dk_at dksJ29_siftDownUsingComparator_0 6 rfl rfl)
theorem dJ29_siftDownUsingComparator_8 : decode cJ29_siftDownUsingComparator 8 = .ok (.if_icmp .ge 80, 3) := dk_162 0 80 (dk_at dksJ29_siftDownUsingComparator_0 8 rfl rfl)
theorem dJ29_siftDownUsingComparator_11 : decode cJ29_siftDownUsingComparator 11 = .ok (.iload_n 0, 1) := dk_26 (dk_at dksJ29_siftDownUsingComparator_0 11 rfl rfl)
theorem dJ29_siftDownUsingComparator_12 : decode cJ29_siftDownUsingComparator 12 = .ok (.iconst 1, 1) := dk_4 (dk_at dksJ29_siftDownUsingComparator_0 12 rfl rfl)
theorem dJ29_siftDownUsingComparator_13 : decode cJ29_siftDownUsingComparator 13 = .ok (.ishl, 1) := dk_120 (dk_at dksJ29_siftDownUsingComparator_0 13 rfl rfl)
theorem dJ29_siftDownUsingComparator_14 : decode cJ29_siftDownUsingComparator 14 = .ok (.iconst 1, 1) := dk_4 (dk_at dksJ29_siftDownUsingComparator_0 14 rfl rfl)
theorem dJ29_siftDownUsingComparator_15 : decode cJ29_siftDownUsingComparator 15 = .ok (.iadd, 1) := dk_96 (dk_at dksJ29_siftDownUsingComparator_0 15 rfl rfl)
theorem dJ29_siftDownUsingComparator_16 : decode cJ29_siftDownUsingComparator 16 = .ok (.istore 6, 2) := dk_54 6 (dk_at dksJ29_siftDownUsingComparator_0 16 rfl rfl)
theorem dJ29_siftDownUsingComparator_18 : decode cJ29_siftDownUsingComparator 18 = .ok (.aload_n 2, 1) := dk_44 (dk_at dksJ29_siftDownUsingComparator_0 18 rfl rfl)
theorem dJ29_siftDownUsingComparator_19 : decode cJ29_siftDownUsingComparator 19 = .ok (.iload 6, 2) := dk_21 6 (dk_at dksJ29_siftDownUsingComparator_0 19 rfl rfl)
theorem dJ29_siftDownUsingComparator_21 : decode cJ29_siftDownUsingComparator 21 = .ok (.aaload, 1) := dk_50 (dk_at dksJ29_siftDownUsingComparator_0 21 rfl rfl)
theorem dJ29_siftDownUsingComparator_22 : decode cJ29_siftDownUsingComparator 22 = .ok (.astore 7, 2) := dk_58 7 (dk_at dksJ29_siftDownUsingComparator_0 22 rfl rfl)
theorem dJ29_siftDownUsingComparator_24 : decode cJ29_siftDownUsingComparator 24 = .ok (.iload 6, 2) := dk_21 6 (dk_at dksJ29_siftDownUsingComparator_1 0 rfl rfl)
theorem dJ29_siftDownUsingComparator_26 : decode cJ29_siftDownUsingComparator 26 = .ok (.iconst 1, 1) := dk_4 (dk_at dksJ29_siftDownUsingComparator_1 2 rfl rfl)
theorem dJ29_siftDownUsingComparator_27 : decode cJ29_siftDownUsingComparator 27 = .ok (.iadd, 1) := dk_96 (dk_at dksJ29_siftDownUsingComparator_1 3 rfl rfl)
theorem dJ29_siftDownUsingComparator_28 : decode cJ29_siftDownUsingComparator 28 = .ok (.istore 8, 2) := dk_54 8 (dk_at dksJ29_siftDownUsingComparator_1 4 rfl rfl)
theorem dJ29_siftDownUsingComparator_30 : decode cJ29_siftDownUsingComparator 30 = .ok (.iload 8, 2) := dk_21 8 (dk_at dksJ29_siftDownUsingComparator_1 6 rfl rfl)
theorem dJ29_siftDownUsingComparator_32 : decode cJ29_siftDownUsingComparator 32 = .ok (.iload_n 3, 1) := dk_29 (dk_at dksJ29_siftDownUsingComparator_1 8 rfl rfl)
theorem dJ29_siftDownUsingComparator_33 : decode cJ29_siftDownUsingComparator 33 = .ok (.if_icmp .ge 28, 3) := dk_162 0 28 (dk_at dksJ29_siftDownUsingComparator_1 9 rfl rfl)
theorem dJ29_siftDownUsingComparator_36 : decode cJ29_siftDownUsingComparator 36 = .ok (.aload 4, 2) := dk_25 4 (dk_at dksJ29_siftDownUsingComparator_1 12 rfl rfl)
theorem dJ29_siftDownUsingComparator_38 : decode cJ29_siftDownUsingComparator 38 = .ok (.aload 7, 2) := dk_25 7 (dk_at dksJ29_siftDownUsingComparator_1 14 rfl rfl)
theorem dJ29_siftDownUsingComparator_40 : decode cJ29_siftDownUsingComparator 40 = .ok (.aload_n 2, 1) := dk_44 (dk_at dksJ29_siftDownUsingComparator_1 16 rfl rfl)
theorem dJ29_siftDownUsingComparator_41 : decode cJ29_siftDownUsingComparator 41 = .ok (.iload 8, 2) := dk_21 8 (dk_at dksJ29_siftDownUsingComparator_1 17 rfl rfl)
theorem dJ29_siftDownUsingComparator_43 : decode cJ29_siftDownUsingComparator 43 = .ok (.aaload, 1) := dk_50 (dk_at dksJ29_siftDownUsingComparator_1 19 rfl rfl)
theorem dJ29_siftDownUsingComparator_44 : decode cJ29_siftDownUsingComparator 44 = .ok (.invokeinterface 149 3, 5) := by decide +kernel
theorem dJ29_siftDownUsingComparator_49 : decode cJ29_siftDownUsingComparator 49 = .ok (.ifCond .le 12, 3) := dk_158 0 12 (dk_at dksJ29_siftDownUsingComparator_2 5 rfl rfl)
theorem dJ29_siftDownUsingComparator_52 : decode cJ29_siftDownUsingComparator 52 = .ok (.aload_n 2, 1) := dk_44 (dk_at dksJ29_siftDownUsingComparator_2 8 rfl rfl)
theorem dJ29_siftDownUsingComparator_53 : decode cJ29_siftDownUsingComparator 53 = .ok (.iload 8, 2) := dk_21 8 (dk_at dksJ29_siftDownUsingComparator_2 9 rfl rfl)
theorem dJ29_siftDownUsingComparator_55 : decode cJ29_siftDownUsingComparator 55 = .ok (.dup, 1) := dk_89 (dk_at dksJ29_siftDownUsingComparator_2 11 rfl rfl)
theorem dJ29_siftDownUsingComparator_56 : decode cJ29_siftDownUsingComparator 56 = .ok (.istore 6, 2) := dk_54 6 (dk_at dksJ29_siftDownUsingComparator_2 12 rfl rfl)
theorem dJ29_siftDownUsingComparator_58 : decode cJ29_siftDownUsingComparator 58 = .ok (.aaload, 1) := dk_50 (dk_at dksJ29_siftDownUsingComparator_2 14 rfl rfl)
theorem dJ29_siftDownUsingComparator_59 : decode cJ29_siftDownUsingComparator 59 = .ok (.astore 7, 2) := dk_58 7 (dk_at dksJ29_siftDownUsingComparator_2 15 rfl rfl)
theorem dJ29_siftDownUsingComparator_61 : decode cJ29_siftDownUsingComparator 61 = .ok (.aload 4, 2) := dk_25 4 (dk_at dksJ29_siftDownUsingComparator_2 17 rfl rfl)
theorem dJ29_siftDownUsingComparator_63 : decode cJ29_siftDownUsingComparator 63 = .ok (.aload_n 1, 1) := dk_43 (dk_at dksJ29_siftDownUsingComparator_2 19 rfl rfl)
theorem dJ29_siftDownUsingComparator_64 : decode cJ29_siftDownUsingComparator 64 = .ok (.aload 7, 2) := dk_25 7 (dk_at dksJ29_siftDownUsingComparator_2 20 rfl rfl)
theorem dJ29_siftDownUsingComparator_66 : decode cJ29_siftDownUsingComparator 66 = .ok (.invokeinterface 149 3, 5) := by decide +kernel
theorem dJ29_siftDownUsingComparator_71 : decode cJ29_siftDownUsingComparator 71 = .ok (.ifCond .gt 6, 3) := dk_157 0 6 (dk_at dksJ29_siftDownUsingComparator_3 5 rfl rfl)
theorem dJ29_siftDownUsingComparator_74 : decode cJ29_siftDownUsingComparator 74 = .ok (.goto 14, 3) := dk_167 0 14 (dk_at dksJ29_siftDownUsingComparator_3 8 rfl rfl)
theorem dJ29_siftDownUsingComparator_77 : decode cJ29_siftDownUsingComparator 77 = .ok (.aload_n 2, 1) := dk_44 (dk_at dksJ29_siftDownUsingComparator_3 11 rfl rfl)
theorem dJ29_siftDownUsingComparator_78 : decode cJ29_siftDownUsingComparator 78 = .ok (.iload_n 0, 1) := dk_26 (dk_at dksJ29_siftDownUsingComparator_3 12 rfl rfl)
theorem dJ29_siftDownUsingComparator_79 : decode cJ29_siftDownUsingComparator 79 = .ok (.aload 7, 2) := dk_25 7 (dk_at dksJ29_siftDownUsingComparator_3 13 rfl rfl)
theorem dJ29_siftDownUsingComparator_81 : decode cJ29_siftDownUsingComparator 81 = .ok (.aastore, 1) := dk_83 (dk_at dksJ29_siftDownUsingComparator_3 15 rfl rfl)
theorem dJ29_siftDownUsingComparator_82 : decode cJ29_siftDownUsingComparator 82 = .ok (.iload 6, 2) := dk_21 6 (dk_at dksJ29_siftDownUsingComparator_3 16 rfl rfl)
theorem dJ29_siftDownUsingComparator_84 : decode cJ29_siftDownUsingComparator 84 = .ok (.istore_n 0, 1) := dk_59 (dk_at dksJ29_siftDownUsingComparator_3 18 rfl rfl)
theorem dJ29_siftDownUsingComparator_85 : decode cJ29_siftDownUsingComparator 85 = .ok (.goto (-80), 3) := dk_167 255 176 (dk_at dksJ29_siftDownUsingComparator_3 19 rfl rfl)
theorem dJ29_siftDownUsingComparator_88 : decode cJ29_siftDownUsingComparator 88 = .ok (.aload_n 2, 1) := dk_44 (dk_at dksJ29_siftDownUsingComparator_3 22 rfl rfl)
theorem dJ29_siftDownUsingComparator_89 : decode cJ29_siftDownUsingComparator 89 = .ok (.iload_n 0, 1) := dk_26 (dk_at dksJ29_siftDownUsingComparator_3 23 rfl rfl)
theorem dJ29_siftDownUsingComparator_90 : decode cJ29_siftDownUsingComparator 90 = .ok (.aload_n 1, 1) := dk_43 (dk_at dksJ29_siftDownUsingComparator_4 0 rfl rfl)
theorem dJ29_siftDownUsingComparator_91 : decode cJ29_siftDownUsingComparator 91 = .ok (.aastore, 1) := dk_83 (dk_at dksJ29_siftDownUsingComparator_4 1 rfl rfl)
theorem dJ29_siftDownUsingComparator_92 : decode cJ29_siftDownUsingComparator 92 = .ok (.return_, 1) := dk_177 (dk_at dksJ29_siftDownUsingComparator_4 2 rfl rfl)
theorem q77 : (Jvm.Cond.initialized "java/util/PriorityQueue") ∈ lw_all := lw_g (lw_at lw_m1 42 rfl) rfl
theorem q785 : (Jvm.Cond.selects "java/util/PriorityQueue" ({ cls := "java/lang/Object", name := "getClass", desc := "()Ljava/lang/Class;" } : Jvm.MethodName) ({ cls := "java/lang/Object", name := "getClass", desc := "()Ljava/lang/Class;" } : Jvm.MethodName)) ∈ lw_all := lw_g (lw_at lw_m4 30 rfl) rfl
theorem q1319 : (Jvm.Cond.instantiable "java/util/PriorityQueue" (4 : Nat)) ∈ lw_all := lw_g (lw_at lw_m6 84 rfl) rfl
theorem q1329 : (Jvm.Cond.instanceMethod ({ cls := "java/util/PriorityQueue", name := "<init>", desc := "(Ljava/util/Comparator;)V" } : Jvm.MethodName)) ∈ lw_all := lw_g (lw_at lw_m6 94 rfl) rfl
theorem q1330 : (Jvm.Cond.code ({ cls := "java/util/PriorityQueue", name := "<init>", desc := "(Ljava/util/Comparator;)V" } : Jvm.MethodName) prog_55_method_3_code (2 : Nat) (Option.none : Option Jvm.ClassFile.FieldType)) ∈ lw_all := lw_g (lw_at lw_m6 95 rfl) rfl
theorem q1331 : (Jvm.Cond.methodLink "java/util/PriorityQueue" (3 : Nat) ({ cls := "java/util/PriorityQueue", name := "<init>", desc := "(ILjava/util/Comparator;)V" } : Jvm.MethodName)) ∈ lw_all := lw_g (lw_at lw_m6 96 rfl) rfl
theorem q1332 : (Jvm.Cond.instanceMethod ({ cls := "java/util/PriorityQueue", name := "<init>", desc := "(ILjava/util/Comparator;)V" } : Jvm.MethodName)) ∈ lw_all := lw_g (lw_at lw_m6 97 rfl) rfl
theorem q1333 : (Jvm.Cond.code ({ cls := "java/util/PriorityQueue", name := "<init>", desc := "(ILjava/util/Comparator;)V" } : Jvm.MethodName) prog_55_method_4_code (3 : Nat) (Option.none : Option Jvm.ClassFile.FieldType)) ∈ lw_all := lw_g (lw_at lw_m6 98 rfl) rfl
theorem q1334 : (Jvm.Cond.methodLink "java/util/PriorityQueue" (7 : Nat) ({ cls := "java/util/AbstractQueue", name := "<init>", desc := "()V" } : Jvm.MethodName)) ∈ lw_all := lw_g (lw_at lw_m6 99 rfl) rfl
theorem q1338 : (Jvm.Cond.classLink "java/util/PriorityQueue" (12 : Nat) "java/lang/IllegalArgumentException") ∈ lw_all := lw_g (lw_at lw_m6 103 rfl) rfl
theorem q1339 : (Jvm.Cond.methodLink "java/util/PriorityQueue" (14 : Nat) ({ cls := "java/lang/IllegalArgumentException", name := "<init>", desc := "()V" } : Jvm.MethodName)) ∈ lw_all := lw_g (lw_at lw_m6 104 rfl) rfl
theorem q1340 : (Jvm.Cond.classLink "java/util/PriorityQueue" (15 : Nat) "java/lang/Object") ∈ lw_all := lw_g (lw_at lw_m6 105 rfl) rfl
theorem q1341 : (Jvm.Cond.fieldLink "java/util/PriorityQueue" (17 : Nat) "java/util/PriorityQueue" "queue" "[Ljava/lang/Object;") ∈ lw_all := lw_g (lw_at lw_m6 106 rfl) rfl
theorem q1342 : (Jvm.Cond.fieldLink "java/util/PriorityQueue" (58 : Nat) "java/util/PriorityQueue" "size" "I") ∈ lw_all := lw_g (lw_at lw_m6 107 rfl) rfl
theorem q1343 : (Jvm.Cond.fieldLink "java/util/PriorityQueue" (21 : Nat) "java/util/PriorityQueue" "comparator" "Ljava/util/Comparator;") ∈ lw_all := lw_g (lw_at lw_m6 108 rfl) rfl
theorem q1344 : (Jvm.Cond.fieldLink "java/util/PriorityQueue" (93 : Nat) "java/util/PriorityQueue" "modCount" "I") ∈ lw_all := lw_g (lw_at lw_m6 109 rfl) rfl
theorem q1345 : (Jvm.Cond.lays "java/util/PriorityQueue" "java/util/PriorityQueue" "queue" "[Ljava/lang/Object;") ∈ lw_all := lw_g (lw_at lw_m6 110 rfl) rfl
theorem q1346 : (Jvm.Cond.soleField "java/util/PriorityQueue" "queue") ∈ lw_all := lw_g (lw_at lw_m6 111 rfl) rfl
theorem q1347 : (Jvm.Cond.lays "java/util/PriorityQueue" "java/util/PriorityQueue" "size" "I") ∈ lw_all := lw_g (lw_at lw_m6 112 rfl) rfl
theorem q1348 : (Jvm.Cond.soleField "java/util/PriorityQueue" "size") ∈ lw_all := lw_g (lw_at lw_m6 113 rfl) rfl
theorem q1349 : (Jvm.Cond.laysFinal "java/util/PriorityQueue" "java/util/PriorityQueue" "comparator" "Ljava/util/Comparator;") ∈ lw_all := lw_g (lw_at lw_m6 114 rfl) rfl
theorem q1350 : (Jvm.Cond.soleField "java/util/PriorityQueue" "comparator") ∈ lw_all := lw_g (lw_at lw_m6 115 rfl) rfl
theorem q1351 : (Jvm.Cond.lays "java/util/PriorityQueue" "java/util/PriorityQueue" "modCount" "I") ∈ lw_all := lw_g (lw_at lw_m6 116 rfl) rfl
theorem q1352 : (Jvm.Cond.soleField "java/util/PriorityQueue" "modCount") ∈ lw_all := lw_g (lw_at lw_m6 117 rfl) rfl
theorem q1353 : (Jvm.Cond.superclass "java/util/PriorityQueue" "java/util/AbstractQueue") ∈ lw_all := lw_g (lw_at lw_m6 118 rfl) rfl
theorem q1379 : (Jvm.Cond.instanceMethod ({ cls := "java/util/PriorityQueue", name := "add", desc := "(Ljava/lang/Object;)Z" } : Jvm.MethodName)) ∈ lw_all := lw_g (lw_at lw_m6 144 rfl) rfl
theorem q1380 : (Jvm.Cond.selects "java/util/PriorityQueue" ({ cls := "java/util/PriorityQueue", name := "add", desc := "(Ljava/lang/Object;)Z" } : Jvm.MethodName) ({ cls := "java/util/PriorityQueue", name := "add", desc := "(Ljava/lang/Object;)Z" } : Jvm.MethodName)) ∈ lw_all := lw_g (lw_at lw_m6 145 rfl) rfl
theorem q1381 : (Jvm.Cond.code ({ cls := "java/util/PriorityQueue", name := "add", desc := "(Ljava/lang/Object;)Z" } : Jvm.MethodName) prog_55_method_13_code (2 : Nat) (Option.some Jvm.ClassFile.FieldType.boolean)) ∈ lw_all := lw_g (lw_at lw_m6 146 rfl) rfl
theorem q1382 : (Jvm.Cond.methodLink "java/util/PriorityQueue" (89 : Nat) ({ cls := "java/util/PriorityQueue", name := "offer", desc := "(Ljava/lang/Object;)Z" } : Jvm.MethodName)) ∈ lw_all := lw_g (lw_at lw_m6 147 rfl) rfl
theorem q1383 : (Jvm.Cond.instanceMethod ({ cls := "java/util/PriorityQueue", name := "offer", desc := "(Ljava/lang/Object;)Z" } : Jvm.MethodName)) ∈ lw_all := lw_g (lw_at lw_m6 148 rfl) rfl
theorem q1384 : (Jvm.Cond.selects "java/util/PriorityQueue" ({ cls := "java/util/PriorityQueue", name := "offer", desc := "(Ljava/lang/Object;)Z" } : Jvm.MethodName) ({ cls := "java/util/PriorityQueue", name := "offer", desc := "(Ljava/lang/Object;)Z" } : Jvm.MethodName)) ∈ lw_all := lw_g (lw_at lw_m6 149 rfl) rfl
theorem q1385 : (Jvm.Cond.code ({ cls := "java/util/PriorityQueue", name := "offer", desc := "(Ljava/lang/Object;)Z" } : Jvm.MethodName) prog_55_method_14_code (3 : Nat) (Option.some Jvm.ClassFile.FieldType.boolean)) ∈ lw_all := lw_g (lw_at lw_m6 150 rfl) rfl
theorem q1386 : (Jvm.Cond.methodLink "java/util/PriorityQueue" (96 : Nat) ({ cls := "java/util/PriorityQueue", name := "grow", desc := "(I)V" } : Jvm.MethodName)) ∈ lw_all := lw_g (lw_at lw_m6 151 rfl) rfl
theorem q1387 : (Jvm.Cond.privateMethod ({ cls := "java/util/PriorityQueue", name := "grow", desc := "(I)V" } : Jvm.MethodName)) ∈ lw_tbl := lw_at lw_m6 152 rfl
theorem q1388 : (Jvm.Cond.instanceMethod ({ cls := "java/util/PriorityQueue", name := "grow", desc := "(I)V" } : Jvm.MethodName)) ∈ lw_all := lw_g (lw_at lw_m6 153 rfl) rfl
theorem q1389 : (Jvm.Cond.code ({ cls := "java/util/PriorityQueue", name := "grow", desc := "(I)V" } : Jvm.MethodName) prog_55_method_12_code (4 : Nat) (Option.none : Option Jvm.ClassFile.FieldType)) ∈ lw_all := lw_g (lw_at lw_m6 154 rfl) rfl
theorem q1390 : (Jvm.Cond.methodLink "java/util/PriorityQueue" (80 : Nat) ({ cls := "jdk/internal/util/ArraysSupport", name := "newLength", desc := "(III)I" } : Jvm.MethodName)) ∈ lw_all := lw_g (lw_at lw_m6 155 rfl) rfl
theorem q1391 : (Jvm.Cond.methodLink "java/util/PriorityQueue" (86 : Nat) ({ cls := "java/util/Arrays", name := "copyOf", desc := "([Ljava/lang/Object;I)[Ljava/lang/Object;" } : Jvm.MethodName)) ∈ lw_all := lw_g (lw_at lw_m6 156 rfl) rfl
theorem q1392 : (Jvm.Cond.methodLink "java/util/PriorityQueue" (100 : Nat) ({ cls := "java/util/PriorityQueue", name := "siftUp", desc := "(ILjava/lang/Object;)V" } : Jvm.MethodName)) ∈ lw_all := lw_g (lw_at lw_m6 157 rfl) rfl
theorem q1393 : (Jvm.Cond.privateMethod ({ cls := "java/util/PriorityQueue", name := "siftUp", desc := "(ILjava/lang/Object;)V" } : Jvm.MethodName)) ∈ lw_tbl := lw_at lw_m6 158 rfl
theorem q1394 : (Jvm.Cond.instanceMethod ({ cls := "java/util/PriorityQueue", name := "siftUp", desc := "(ILjava/lang/Object;)V" } : Jvm.MethodName)) ∈ lw_all := lw_g (lw_at lw_m6 159 rfl) rfl
theorem q1395 : (Jvm.Cond.code ({ cls := "java/util/PriorityQueue", name := "siftUp", desc := "(ILjava/lang/Object;)V" } : Jvm.MethodName) prog_55_method_27_code (3 : Nat) (Option.none : Option Jvm.ClassFile.FieldType)) ∈ lw_all := lw_g (lw_at lw_m6 160 rfl) rfl
theorem q1396 : (Jvm.Cond.methodLink "java/util/PriorityQueue" (136 : Nat) ({ cls := "java/util/PriorityQueue", name := "siftUpUsingComparator", desc := "(ILjava/lang/Object;[Ljava/lang/Object;Ljava/util/Comparator;)V" } : Jvm.MethodName)) ∈ lw_all := lw_g (lw_at lw_m6 161 rfl) rfl
theorem q1397 : (Jvm.Cond.static ({ cls := "java/util/PriorityQueue", name := "siftUpUsingComparator", desc := "(ILjava/lang/Object;[Ljava/lang/Object;Ljava/util/Comparator;)V" } : Jvm.MethodName)) ∈ lw_all := lw_g (lw_at lw_m6 162 rfl) rfl
theorem q1398 : (Jvm.Cond.code ({ cls := "java/util/PriorityQueue", name := "siftUpUsingComparator", desc := "(ILjava/lang/Object;[Ljava/lang/Object;Ljava/util/Comparator;)V" } : Jvm.MethodName) prog_55_method_29_code (6 : Nat) (Option.none : Option Jvm.ClassFile.FieldType)) ∈ lw_all := lw_g (lw_at lw_m6 163 rfl) rfl
theorem q1399 : (Jvm.Cond.interfaceEntry "java/util/PriorityQueue" (149 : Nat)) ∈ lw_tbl := lw_at lw_m6 164 rfl
theorem q1400 : (Jvm.Cond.methodLink "java/util/PriorityQueue" (149 : Nat) ({ cls := "java/util/Comparator", name := "compare", desc := "(Ljava/lang/Object;Ljava/lang/Object;)I" } : Jvm.MethodName)) ∈ lw_all := lw_g (lw_at lw_m6 165 rfl) rfl
theorem q1401 : (Jvm.Cond.methodLink "java/util/PriorityQueue" (140 : Nat) ({ cls := "java/util/PriorityQueue", name := "siftUpComparable", desc := "(ILjava/lang/Object;[Ljava/lang/Object;)V" } : Jvm.MethodName)) ∈ lw_all := lw_g (lw_at lw_m6 166 rfl) rfl
theorem q1402 : (Jvm.Cond.static ({ cls := "java/util/PriorityQueue", name := "siftUpComparable", desc := "(ILjava/lang/Object;[Ljava/lang/Object;)V" } : Jvm.MethodName)) ∈ lw_all := lw_g (lw_at lw_m6 167 rfl) rfl
theorem q1403 : (Jvm.Cond.code ({ cls := "java/util/PriorityQueue", name := "siftUpComparable", desc := "(ILjava/lang/Object;[Ljava/lang/Object;)V" } : Jvm.MethodName) prog_55_method_28_code (6 : Nat) (Option.none : Option Jvm.ClassFile.FieldType)) ∈ lw_all := lw_g (lw_at lw_m6 168 rfl) rfl
theorem q1404 : (Jvm.Cond.classLink "java/util/PriorityQueue" (144 : Nat) "java/lang/Comparable") ∈ lw_all := lw_g (lw_at lw_m6 169 rfl) rfl
theorem q1405 : (Jvm.Cond.interfaceEntry "java/util/PriorityQueue" (146 : Nat)) ∈ lw_tbl := lw_at lw_m6 170 rfl
theorem q1406 : (Jvm.Cond.methodLink "java/util/PriorityQueue" (146 : Nat) ({ cls := "java/lang/Comparable", name := "compareTo", desc := "(Ljava/lang/Object;)I" } : Jvm.MethodName)) ∈ lw_all := lw_g (lw_at lw_m6 171 rfl) rfl
theorem q1408 : (Jvm.Cond.sameMethod "java/util/PriorityQueue" "java/util/AbstractCollection" "isEmpty" "()Z") ∈ lw_all := lw_g (lw_at lw_m6 173 rfl) rfl
theorem q1410 : (Jvm.Cond.selects "java/util/PriorityQueue" ({ cls := "java/util/PriorityQueue", name := "isEmpty", desc := "()Z" } : Jvm.MethodName) ({ cls := "java/util/AbstractCollection", name := "isEmpty", desc := "()Z" } : Jvm.MethodName)) ∈ lw_all := lw_g (lw_at lw_m6 175 rfl) rfl
theorem q1417 : (Jvm.Cond.selects "java/util/PriorityQueue" ({ cls := "java/util/AbstractCollection", name := "size", desc := "()I" } : Jvm.MethodName) ({ cls := "java/util/PriorityQueue", name := "size", desc := "()I" } : Jvm.MethodName)) ∈ lw_all := lw_g (lw_at lw_m6 182 rfl) rfl
theorem q1418 : (Jvm.Cond.instanceMethod ({ cls := "java/util/PriorityQueue", name := "size", desc := "()I" } : Jvm.MethodName)) ∈ lw_all := lw_g (lw_at lw_m6 183 rfl) rfl
theorem q1419 : (Jvm.Cond.code ({ cls := "java/util/PriorityQueue", name := "size", desc := "()I" } : Jvm.MethodName) prog_55_method_23_code (1 : Nat) (Option.some Jvm.ClassFile.FieldType.int)) ∈ lw_all := lw_g (lw_at lw_m6 184 rfl) rfl
theorem q1421 : (Jvm.Cond.instanceMethod ({ cls := "java/util/PriorityQueue", name := "poll", desc := "()Ljava/lang/Object;" } : Jvm.MethodName)) ∈ lw_all := lw_g (lw_at lw_m6 186 rfl) rfl
theorem q1422 : (Jvm.Cond.selects "java/util/PriorityQueue" ({ cls := "java/util/PriorityQueue", name := "poll", desc := "()Ljava/lang/Object;" } : Jvm.MethodName) ({ cls := "java/util/PriorityQueue", name := "poll", desc := "()Ljava/lang/Object;" } : Jvm.MethodName)) ∈ lw_all := lw_g (lw_at lw_m6 187 rfl) rfl
theorem q1423 : (Jvm.Cond.code ({ cls := "java/util/PriorityQueue", name := "poll", desc := "()Ljava/lang/Object;" } : Jvm.MethodName) prog_55_method_25_code (6 : Nat) (Option.some (Jvm.ClassFile.FieldType.object "java/lang/Object"))) ∈ lw_all := lw_g (lw_at lw_m6 188 rfl) rfl
theorem q1424 : (Jvm.Cond.methodLink "java/util/PriorityQueue" (125 : Nat) ({ cls := "java/util/PriorityQueue", name := "siftDownComparable", desc := "(ILjava/lang/Object;[Ljava/lang/Object;I)V" } : Jvm.MethodName)) ∈ lw_all := lw_g (lw_at lw_m6 189 rfl) rfl
theorem q1425 : (Jvm.Cond.static ({ cls := "java/util/PriorityQueue", name := "siftDownComparable", desc := "(ILjava/lang/Object;[Ljava/lang/Object;I)V" } : Jvm.MethodName)) ∈ lw_all := lw_g (lw_at lw_m6 190 rfl) rfl
theorem q1426 : (Jvm.Cond.code ({ cls := "java/util/PriorityQueue", name := "siftDownComparable", desc := "(ILjava/lang/Object;[Ljava/lang/Object;I)V" } : Jvm.MethodName) prog_55_method_31_code (9 : Nat) (Option.none : Option Jvm.ClassFile.FieldType)) ∈ lw_all := lw_g (lw_at lw_m6 191 rfl) rfl
theorem q1427 : (Jvm.Cond.methodLink "java/util/PriorityQueue" (129 : Nat) ({ cls := "java/util/PriorityQueue", name := "siftDownUsingComparator", desc := "(ILjava/lang/Object;[Ljava/lang/Object;ILjava/util/Comparator;)V" } : Jvm.MethodName)) ∈ lw_all := lw_g (lw_at lw_m6 192 rfl) rfl
theorem q1428 : (Jvm.Cond.static ({ cls := "java/util/PriorityQueue", name := "siftDownUsingComparator", desc := "(ILjava/lang/Object;[Ljava/lang/Object;ILjava/util/Comparator;)V" } : Jvm.MethodName)) ∈ lw_all := lw_g (lw_at lw_m6 193 rfl) rfl
theorem q1429 : (Jvm.Cond.code ({ cls := "java/util/PriorityQueue", name := "siftDownUsingComparator", desc := "(ILjava/lang/Object;[Ljava/lang/Object;ILjava/util/Comparator;)V" } : Jvm.MethodName) prog_55_method_32_code (9 : Nat) (Option.none : Option Jvm.ClassFile.FieldType)) ∈ lw_all := lw_g (lw_at lw_m6 194 rfl) rfl
theorem q1802 : (Jvm.Cond.castable "java/util/PriorityQueue" "java/lang/Object") ∈ lw_tbl := lw_at lw_m8 87 rfl
theorem in_J29 : ∀ w ∈ wsJ290, w ∈ lw_all := lw_in wsJ290 [1345, 1347, 1349, 1351] (by decide +kernel) (by decide +kernel)

/-! java/util/AbstractList -/
set_option maxRecDepth 100000
def RJ3 : String := "java/util/AbstractList"
abbrev cJ3_init : ByteArray := prog_41_method_1_code
def yJ3_init : MethodName := ⟨RJ3, "<init>", "()V"⟩
def dkwJ3_init_0 : List UInt8 := [42, 183, 0, 1, 42, 3, 181, 0, 7, 177]
abbrev dktJ3_init_0 : List UInt8 := dkwJ3_init_0 ++ []
theorem dksJ3_init_0 : cJ3_init.data.toList.drop 0 = dktJ3_init_0 := by decide +kernel
theorem dJ3_init_0 : decode cJ3_init 0 = .ok (.aload_n 0, 1) := dk_42 (dk_at dksJ3_init_0 0 rfl rfl)
theorem dJ3_init_1 : decode cJ3_init 1 = .ok (.invokespecial 1, 3) := dk_183 0 1 (dk_at dksJ3_init_0 1 rfl rfl)
theorem dJ3_init_4 : decode cJ3_init 4 = .ok (.aload_n 0, 1) := dk_42 (dk_at dksJ3_init_0 4 rfl rfl)
theorem dJ3_init_5 : decode cJ3_init 5 = .ok (.iconst 0, 1) := dk_3 (dk_at dksJ3_init_0 5 rfl rfl)
theorem dJ3_init_6 : decode cJ3_init 6 = .ok (.putfield 7, 3) := dk_181 0 7 (dk_at dksJ3_init_0 6 rfl rfl)
theorem dJ3_init_9 : decode cJ3_init 9 = .ok (.return_, 1) := dk_177 (dk_at dksJ3_init_0 9 rfl rfl)
theorem q44 : (Jvm.Cond.initialized "java/util/AbstractList") ∈ lw_all := lw_g (lw_at lw_m1 9 rfl) rfl
theorem q153 : (Jvm.Cond.instanceMethod ({ cls := "java/util/AbstractList", name := "<init>", desc := "()V" } : Jvm.MethodName)) ∈ lw_all := lw_g (lw_at lw_m1 118 rfl) rfl
theorem q154 : (Jvm.Cond.code ({ cls := "java/util/AbstractList", name := "<init>", desc := "()V" } : Jvm.MethodName) prog_41_method_1_code (1 : Nat) (Option.none : Option Jvm.ClassFile.FieldType)) ∈ lw_all := lw_g (lw_at lw_m1 119 rfl) rfl
theorem q155 : (Jvm.Cond.methodLink "java/util/AbstractList" (1 : Nat) ({ cls := "java/util/AbstractCollection", name := "<init>", desc := "()V" } : Jvm.MethodName)) ∈ lw_all := lw_g (lw_at lw_m1 120 rfl) rfl
theorem q165 : (Jvm.Cond.fieldLink "java/util/AbstractList" (7 : Nat) "java/util/AbstractList" "modCount" "I") ∈ lw_all := lw_g (lw_at lw_m1 130 rfl) rfl
theorem q174 : (Jvm.Cond.soleField "java/util/AbstractList" "modCount") ∈ lw_all := lw_g (lw_at lw_m1 139 rfl) rfl

/-! java/lang/Object -/
set_option maxRecDepth 100000
def RJ30 : String := "java/lang/Object"
abbrev cJ30_init : ByteArray := object_method_1_code
def yJ30_init : MethodName := ⟨RJ30, "<init>", "()V"⟩
theorem dJ30_init_0 : decode cJ30_init 0 = .ok (.return_, 1) := by decide +kernel
theorem q87 : (Jvm.Cond.instanceMethod ({ cls := "java/lang/Object", name := "<init>", desc := "()V" } : Jvm.MethodName)) ∈ lw_all := lw_g (lw_at lw_m1 52 rfl) rfl
theorem q88 : (Jvm.Cond.code ({ cls := "java/lang/Object", name := "<init>", desc := "()V" } : Jvm.MethodName) object_method_1_code (1 : Nat) (Option.none : Option Jvm.ClassFile.FieldType)) ∈ lw_all := lw_g (lw_at lw_m1 53 rfl) rfl
theorem q477 : (Jvm.Cond.native ({ cls := "java/lang/Object", name := "clone", desc := "()Ljava/lang/Object;" } : Jvm.MethodName)) ∈ lw_all := lw_g (lw_at lw_m2 202 rfl) rfl
theorem q478 : (Jvm.Cond.instanceMethod ({ cls := "java/lang/Object", name := "clone", desc := "()Ljava/lang/Object;" } : Jvm.MethodName)) ∈ lw_all := lw_g (lw_at lw_m2 203 rfl) rfl
theorem q765 : (Jvm.Cond.instanceMethod ({ cls := "java/lang/Object", name := "getClass", desc := "()Ljava/lang/Class;" } : Jvm.MethodName)) ∈ lw_all := lw_g (lw_at lw_m4 10 rfl) rfl
theorem q766 : (Jvm.Cond.sameMethod "java/lang/Object" "java/lang/Object" "getClass" "()Ljava/lang/Class;") ∈ lw_all := lw_g (lw_at lw_m4 11 rfl) rfl
theorem q789 : (Jvm.Cond.native ({ cls := "java/lang/Object", name := "getClass", desc := "()Ljava/lang/Class;" } : Jvm.MethodName)) ∈ lw_all := lw_g (lw_at lw_m4 34 rfl) rfl
theorem q1782 : (Jvm.Cond.initialized "java/lang/Object") ∈ lw_all := lw_g (lw_at lw_m8 67 rfl) rfl
theorem q1809 : (Jvm.Cond.declares ({ cls := "java/lang/Object", name := "getClass", desc := "()Ljava/lang/Class;" } : Jvm.MethodName)) ∈ lw_tbl := lw_at lw_m8 94 rfl

/-! java/util/ArrayList -/
set_option maxRecDepth 100000
def RJ4 : String := "java/util/ArrayList"
def TJ4 : u_T := fun k => match k with
  | 0 => ("java/util/AbstractList", "modCount", "I", false)
  | 1 => ("java/util/ArrayList", "elementData", "[Ljava/lang/Object;", false)
  | _ => ("java/util/ArrayList", "size", "I", false)
def tyJ4 : Nat → FieldType := fun k => match k with
  | 0 => .int
  | 1 => .array (.object "java/lang/Object")
  | _ => .int
abbrev wsJ40 : List Cond := u_ws RJ4 TJ4 3
theorem nmJ4 : ∀ a, a < 3 → ∀ b, b < 3 → a ≠ b → (TJ4 a).2.1 ≠ (TJ4 b).2.1 := by decide +kernel
theorem tyJ4_ok : ∀ k, k < 3 → parseFieldDescriptor (TJ4 k).2.2.1 = some (tyJ4 k) := by decide +kernel
abbrev cJ4_init : ByteArray := prog_44_method_2_code
def yJ4_init : MethodName := ⟨RJ4, "<init>", "()V"⟩
def dkwJ4_init_0 : List UInt8 := [42, 183, 0, 1, 42, 178, 0, 39, 181, 0, 9, 177]
abbrev dktJ4_init_0 : List UInt8 := dkwJ4_init_0 ++ []
theorem dksJ4_init_0 : cJ4_init.data.toList.drop 0 = dktJ4_init_0 := by decide +kernel
theorem dJ4_init_0 : decode cJ4_init 0 = .ok (.aload_n 0, 1) := dk_42 (dk_at dksJ4_init_0 0 rfl rfl)
theorem dJ4_init_1 : decode cJ4_init 1 = .ok (.invokespecial 1, 3) := dk_183 0 1 (dk_at dksJ4_init_0 1 rfl rfl)
theorem dJ4_init_4 : decode cJ4_init 4 = .ok (.aload_n 0, 1) := dk_42 (dk_at dksJ4_init_0 4 rfl rfl)
theorem dJ4_init_5 : decode cJ4_init 5 = .ok (.getstatic 39, 3) := dk_178 0 39 (dk_at dksJ4_init_0 5 rfl rfl)
theorem dJ4_init_8 : decode cJ4_init 8 = .ok (.putfield 9, 3) := dk_181 0 9 (dk_at dksJ4_init_0 8 rfl rfl)
theorem dJ4_init_11 : decode cJ4_init 11 = .ok (.return_, 1) := dk_177 (dk_at dksJ4_init_0 11 rfl rfl)
abbrev cJ4_size : ByteArray := prog_44_method_8_code
def yJ4_size : MethodName := ⟨RJ4, "size", "()I"⟩
theorem dJ4_size_0 : decode cJ4_size 0 = .ok (.aload_n 0, 1) := by decide +kernel
theorem dJ4_size_1 : decode cJ4_size 1 = .ok (.getfield 48, 3) := by decide +kernel
theorem dJ4_size_4 : decode cJ4_size 4 = .ok (.ireturn, 1) := by decide +kernel
abbrev cJ4_isEmpty : ByteArray := prog_44_method_9_code
def yJ4_isEmpty : MethodName := ⟨RJ4, "isEmpty", "()Z"⟩
def dkwJ4_isEmpty_0 : List UInt8 := [42, 180, 0, 48, 154, 0, 7, 4, 167, 0, 4, 3, 172]
abbrev dktJ4_isEmpty_0 : List UInt8 := dkwJ4_isEmpty_0 ++ []
theorem dksJ4_isEmpty_0 : cJ4_isEmpty.data.toList.drop 0 = dktJ4_isEmpty_0 := by decide +kernel
theorem dJ4_isEmpty_0 : decode cJ4_isEmpty 0 = .ok (.aload_n 0, 1) := dk_42 (dk_at dksJ4_isEmpty_0 0 rfl rfl)
theorem dJ4_isEmpty_1 : decode cJ4_isEmpty 1 = .ok (.getfield 48, 3) := dk_180 0 48 (dk_at dksJ4_isEmpty_0 1 rfl rfl)
theorem dJ4_isEmpty_4 : decode cJ4_isEmpty 4 = .ok (.ifCond .ne 7, 3) := dk_154 0 7 (dk_at dksJ4_isEmpty_0 4 rfl rfl)
theorem dJ4_isEmpty_7 : decode cJ4_isEmpty 7 = .ok (.iconst 1, 1) := dk_4 (dk_at dksJ4_isEmpty_0 7 rfl rfl)
theorem dJ4_isEmpty_8 : decode cJ4_isEmpty 8 = .ok (.goto 4, 3) := dk_167 0 4 (dk_at dksJ4_isEmpty_0 8 rfl rfl)
theorem dJ4_isEmpty_11 : decode cJ4_isEmpty 11 = .ok (.iconst 0, 1) := dk_3 (dk_at dksJ4_isEmpty_0 11 rfl rfl)
theorem dJ4_isEmpty_12 : decode cJ4_isEmpty 12 = .ok (.ireturn, 1) := dk_172 (dk_at dksJ4_isEmpty_0 12 rfl rfl)
abbrev cJ4_remove : ByteArray := prog_44_method_29_code
def yJ4_remove : MethodName := ⟨RJ4, "remove", "(I)Ljava/lang/Object;"⟩
def dkwJ4_remove_1 : List UInt8 := [45, 176]
abbrev dktJ4_remove_1 : List UInt8 := dkwJ4_remove_1 ++ []
def dkwJ4_remove_0 : List UInt8 := [27, 42, 180, 0, 48, 184, 0, 118, 87, 42, 180, 0, 9, 77, 44, 27, 50, 78, 42, 44, 27, 182, 0, 144]
abbrev dktJ4_remove_0 : List UInt8 := dkwJ4_remove_0 ++ dktJ4_remove_1
theorem dksJ4_remove_0 : cJ4_remove.data.toList.drop 0 = dktJ4_remove_0 := by decide +kernel
theorem dksJ4_remove_1 : cJ4_remove.data.toList.drop 24 = dktJ4_remove_1 := dk_seg dksJ4_remove_0 24 rfl rfl
theorem dJ4_remove_0 : decode cJ4_remove 0 = .ok (.iload_n 1, 1) := dk_27 (dk_at dksJ4_remove_0 0 rfl rfl)
theorem dJ4_remove_1 : decode cJ4_remove 1 = .ok (.aload_n 0, 1) := dk_42 (dk_at dksJ4_remove_0 1 rfl rfl)
theorem dJ4_remove_2 : decode cJ4_remove 2 = .ok (.getfield 48, 3) := dk_180 0 48 (dk_at dksJ4_remove_0 2 rfl rfl)
theorem dJ4_remove_5 : decode cJ4_remove 5 = .ok (.invokestatic 118, 3) := dk_184 0 118 (dk_at dksJ4_remove_0 5 rfl rfl)
theorem dJ4_remove_8 : decode cJ4_remove 8 = .ok (.pop, 1) := dk_87 (dk_at dksJ4_remove_0 8 rfl rfl)
theorem dJ4_remove_9 : decode cJ4_remove 9 = .ok (.aload_n 0, 1) := dk_42 (dk_at dksJ4_remove_0 9 rfl rfl)
theorem dJ4_remove_10 : decode cJ4_remove 10 = .ok (.getfield 9, 3) := dk_180 0 9 (dk_at dksJ4_remove_0 10 rfl rfl)
theorem dJ4_remove_13 : decode cJ4_remove 13 = .ok (.astore_n 2, 1) := dk_77 (dk_at dksJ4_remove_0 13 rfl rfl)
theorem dJ4_remove_14 : decode cJ4_remove 14 = .ok (.aload_n 2, 1) := dk_44 (dk_at dksJ4_remove_0 14 rfl rfl)
theorem dJ4_remove_15 : decode cJ4_remove 15 = .ok (.iload_n 1, 1) := dk_27 (dk_at dksJ4_remove_0 15 rfl rfl)
theorem dJ4_remove_16 : decode cJ4_remove 16 = .ok (.aaload, 1) := dk_50 (dk_at dksJ4_remove_0 16 rfl rfl)
theorem dJ4_remove_17 : decode cJ4_remove 17 = .ok (.astore_n 3, 1) := dk_78 (dk_at dksJ4_remove_0 17 rfl rfl)
theorem dJ4_remove_18 : decode cJ4_remove 18 = .ok (.aload_n 0, 1) := dk_42 (dk_at dksJ4_remove_0 18 rfl rfl)
theorem dJ4_remove_19 : decode cJ4_remove 19 = .ok (.aload_n 2, 1) := dk_44 (dk_at dksJ4_remove_0 19 rfl rfl)
theorem dJ4_remove_20 : decode cJ4_remove 20 = .ok (.iload_n 1, 1) := dk_27 (dk_at dksJ4_remove_0 20 rfl rfl)
theorem dJ4_remove_21 : decode cJ4_remove 21 = .ok (.invokevirtual 144, 3) := dk_182 0 144 (dk_at dksJ4_remove_0 21 rfl rfl)
theorem dJ4_remove_24 : decode cJ4_remove 24 = .ok (.aload_n 3, 1) := dk_45 (dk_at dksJ4_remove_1 0 rfl rfl)
theorem dJ4_remove_25 : decode cJ4_remove 25 = .ok (.areturn, 1) := dk_176 (dk_at dksJ4_remove_1 1 rfl rfl)
abbrev cJ4_fastRemove : ByteArray := prog_44_method_39_code
def yJ4_fastRemove : MethodName := ⟨RJ4, "fastRemove", "([Ljava/lang/Object;I)V"⟩
def dkwJ4_fastRemove_1 : List UInt8 := [4, 96, 43, 28, 29, 28, 100, 184, 0, 112, 43, 42, 29, 90, 181, 0, 48, 1, 83, 177]
abbrev dktJ4_fastRemove_1 : List UInt8 := dkwJ4_fastRemove_1 ++ []
def dkwJ4_fastRemove_0 : List UInt8 := [42, 89, 180, 0, 63, 4, 96, 181, 0, 63, 42, 180, 0, 48, 4, 100, 89, 62, 28, 164, 0, 15, 43, 28]
abbrev dktJ4_fastRemove_0 : List UInt8 := dkwJ4_fastRemove_0 ++ dktJ4_fastRemove_1
theorem dksJ4_fastRemove_0 : cJ4_fastRemove.data.toList.drop 0 = dktJ4_fastRemove_0 := by decide +kernel
theorem dksJ4_fastRemove_1 : cJ4_fastRemove.data.toList.drop 24 = dktJ4_fastRemove_1 := dk_seg dksJ4_fastRemove_0 24 rfl rfl
theorem dJ4_fastRemove_0 : decode cJ4_fastRemove 0 = .ok (.aload_n 0, 1) := dk_42 (dk_at dksJ4_fastRemove_0 0 rfl rfl)
theorem dJ4_fastRemove_1 : decode cJ4_fastRemove 1 = .ok (.dup, 1) := dk_89 (dk_at dksJ4_fastRemove_0 1 rfl rfl)
theorem dJ4_fastRemove_2 : decode cJ4_fastRemove 2 = .ok (.getfield 63, 3) := dk_180 0 63 (dk_at dksJ4_fastRemove_0 2 rfl rfl)
theorem dJ4_fastRemove_5 : decode cJ4_fastRemove 5 = .ok (.iconst 1, 1) := dk_4 (dk_at dksJ4_fastRemove_0 5 rfl rfl)
theorem dJ4_fastRemove_6 : decode cJ4_fastRemove 6 = .ok (.iadd, 1) := dk_96 (dk_at dksJ4_fastRemove_0 6 rfl rfl)
theorem dJ4_fastRemove_7 : decode cJ4_fastRemove 7 = .ok (.putfield 63, 3) := dk_181 0 63 (dk_at dksJ4_fastRemove_0 7 rfl rfl)
theorem dJ4_fastRemove_10 : decode cJ4_fastRemove 10 = .ok (.aload_n 0, 1) := dk_42 (dk_at dksJ4_fastRemove_0 10 rfl rfl)
theorem dJ4_fastRemove_11 : decode cJ4_fastRemove 11 = .ok (.getfield 48, 3) := dk_180 0 48 (dk_at dksJ4_fastRemove_0 11 rfl rfl)
theorem dJ4_fastRemove_14 : decode cJ4_fastRemove 14 = .ok (.iconst 1, 1) := dk_4 (dk_at dksJ4_fastRemove_0 14 rfl rfl)
theorem dJ4_fastRemove_15 : decode cJ4_fastRemove 15 = .ok (.isub, 1) := dk_100 (dk_at dksJ4_fastRemove_0 15 rfl rfl)
theorem dJ4_fastRemove_16 : decode cJ4_fastRemove 16 = .ok (.dup, 1) := dk_89 (dk_at dksJ4_fastRemove_0 16 rfl rfl)
theorem dJ4_fastRemove_17 : decode cJ4_fastRemove 17 = .ok (.istore_n 3, 1) := dk_62 (dk_at dksJ4_fastRemove_0 17 rfl rfl)
theorem dJ4_fastRemove_18 : decode cJ4_fastRemove 18 = .ok (.iload_n 2, 1) := dk_28 (dk_at dksJ4_fastRemove_0 18 rfl rfl)
theorem dJ4_fastRemove_19 : decode cJ4_fastRemove 19 = .ok (.if_icmp .le 15, 3) := dk_164 0 15 (dk_at dksJ4_fastRemove_0 19 rfl rfl)
theorem dJ4_fastRemove_22 : decode cJ4_fastRemove 22 = .ok (.aload_n 1, 1) := dk_43 (dk_at dksJ4_fastRemove_0 22 rfl rfl)
theorem dJ4_fastRemove_23 : decode cJ4_fastRemove 23 = .ok (.iload_n 2, 1) := dk_28 (dk_at dksJ4_fastRemove_0 23 rfl rfl)
theorem dJ4_fastRemove_24 : decode cJ4_fastRemove 24 = .ok (.iconst 1, 1) := dk_4 (dk_at dksJ4_fastRemove_1 0 rfl rfl)
theorem dJ4_fastRemove_25 : decode cJ4_fastRemove 25 = .ok (.iadd, 1) := dk_96 (dk_at dksJ4_fastRemove_1 1 rfl rfl)
theorem dJ4_fastRemove_26 : decode cJ4_fastRemove 26 = .ok (.aload_n 1, 1) := dk_43 (dk_at dksJ4_fastRemove_1 2 rfl rfl)
theorem dJ4_fastRemove_27 : decode cJ4_fastRemove 27 = .ok (.iload_n 2, 1) := dk_28 (dk_at dksJ4_fastRemove_1 3 rfl rfl)
theorem dJ4_fastRemove_28 : decode cJ4_fastRemove 28 = .ok (.iload_n 3, 1) := dk_29 (dk_at dksJ4_fastRemove_1 4 rfl rfl)
theorem dJ4_fastRemove_29 : decode cJ4_fastRemove 29 = .ok (.iload_n 2, 1) := dk_28 (dk_at dksJ4_fastRemove_1 5 rfl rfl)
theorem dJ4_fastRemove_30 : decode cJ4_fastRemove 30 = .ok (.isub, 1) := dk_100 (dk_at dksJ4_fastRemove_1 6 rfl rfl)
theorem dJ4_fastRemove_31 : decode cJ4_fastRemove 31 = .ok (.invokestatic 112, 3) := dk_184 0 112 (dk_at dksJ4_fastRemove_1 7 rfl rfl)
theorem dJ4_fastRemove_34 : decode cJ4_fastRemove 34 = .ok (.aload_n 1, 1) := dk_43 (dk_at dksJ4_fastRemove_1 10 rfl rfl)
theorem dJ4_fastRemove_35 : decode cJ4_fastRemove 35 = .ok (.aload_n 0, 1) := dk_42 (dk_at dksJ4_fastRemove_1 11 rfl rfl)
theorem dJ4_fastRemove_36 : decode cJ4_fastRemove 36 = .ok (.iload_n 3, 1) := dk_29 (dk_at dksJ4_fastRemove_1 12 rfl rfl)
theorem dJ4_fastRemove_37 : decode cJ4_fastRemove 37 = .ok (.dup_x1, 1) := dk_90 (dk_at dksJ4_fastRemove_1 13 rfl rfl)
theorem dJ4_fastRemove_38 : decode cJ4_fastRemove 38 = .ok (.putfield 48, 3) := dk_181 0 48 (dk_at dksJ4_fastRemove_1 14 rfl rfl)
theorem dJ4_fastRemove_41 : decode cJ4_fastRemove 41 = .ok (.aconst_null, 1) := dk_1 (dk_at dksJ4_fastRemove_1 17 rfl rfl)
theorem dJ4_fastRemove_42 : decode cJ4_fastRemove 42 = .ok (.aastore, 1) := dk_83 (dk_at dksJ4_fastRemove_1 18 rfl rfl)
theorem dJ4_fastRemove_43 : decode cJ4_fastRemove 43 = .ok (.return_, 1) := dk_177 (dk_at dksJ4_fastRemove_1 19 rfl rfl)
abbrev cJ4_iterator : ByteArray := prog_44_method_55_code
def yJ4_iterator : MethodName := ⟨RJ4, "iterator", "()Ljava/util/Iterator;"⟩
def dkwJ4_iterator_0 : List UInt8 := [187, 1, 11, 89, 42, 183, 1, 13, 176]
abbrev dktJ4_iterator_0 : List UInt8 := dkwJ4_iterator_0 ++ []
theorem dksJ4_iterator_0 : cJ4_iterator.data.toList.drop 0 = dktJ4_iterator_0 := by decide +kernel
theorem dJ4_iterator_0 : decode cJ4_iterator 0 = .ok (.new 267, 3) := dk_187 1 11 (dk_at dksJ4_iterator_0 0 rfl rfl)
theorem dJ4_iterator_3 : decode cJ4_iterator 3 = .ok (.dup, 1) := dk_89 (dk_at dksJ4_iterator_0 3 rfl rfl)
theorem dJ4_iterator_4 : decode cJ4_iterator 4 = .ok (.aload_n 0, 1) := dk_42 (dk_at dksJ4_iterator_0 4 rfl rfl)
theorem dJ4_iterator_5 : decode cJ4_iterator 5 = .ok (.invokespecial 269, 3) := dk_183 1 13 (dk_at dksJ4_iterator_0 5 rfl rfl)
theorem dJ4_iterator_8 : decode cJ4_iterator 8 = .ok (.areturn, 1) := dk_176 (dk_at dksJ4_iterator_0 8 rfl rfl)
abbrev cJ4_add : ByteArray := prog_44_method_25_code
def yJ4_add : MethodName := ⟨RJ4, "add", "(Ljava/lang/Object;)Z"⟩
def dkwJ4_add_1 : List UInt8 := [172]
abbrev dktJ4_add_1 : List UInt8 := dkwJ4_add_1 ++ []
def dkwJ4_add_0 : List UInt8 := [42, 89, 180, 0, 63, 4, 96, 181, 0, 63, 42, 43, 42, 180, 0, 9, 42, 180, 0, 48, 182, 0, 131, 4]
abbrev dktJ4_add_0 : List UInt8 := dkwJ4_add_0 ++ dktJ4_add_1
theorem dksJ4_add_0 : cJ4_add.data.toList.drop 0 = dktJ4_add_0 := by decide +kernel
theorem dksJ4_add_1 : cJ4_add.data.toList.drop 24 = dktJ4_add_1 := dk_seg dksJ4_add_0 24 rfl rfl
theorem dJ4_add_0 : decode cJ4_add 0 = .ok (.aload_n 0, 1) := dk_42 (dk_at dksJ4_add_0 0 rfl rfl)
theorem dJ4_add_1 : decode cJ4_add 1 = .ok (.dup, 1) := dk_89 (dk_at dksJ4_add_0 1 rfl rfl)
theorem dJ4_add_2 : decode cJ4_add 2 = .ok (.getfield 63, 3) := dk_180 0 63 (dk_at dksJ4_add_0 2 rfl rfl)
theorem dJ4_add_5 : decode cJ4_add 5 = .ok (.iconst 1, 1) := dk_4 (dk_at dksJ4_add_0 5 rfl rfl)
theorem dJ4_add_6 : decode cJ4_add 6 = .ok (.iadd, 1) := dk_96 (dk_at dksJ4_add_0 6 rfl rfl)
theorem dJ4_add_7 : decode cJ4_add 7 = .ok (.putfield 63, 3) := dk_181 0 63 (dk_at dksJ4_add_0 7 rfl rfl)
theorem dJ4_add_10 : decode cJ4_add 10 = .ok (.aload_n 0, 1) := dk_42 (dk_at dksJ4_add_0 10 rfl rfl)
theorem dJ4_add_11 : decode cJ4_add 11 = .ok (.aload_n 1, 1) := dk_43 (dk_at dksJ4_add_0 11 rfl rfl)
theorem dJ4_add_12 : decode cJ4_add 12 = .ok (.aload_n 0, 1) := dk_42 (dk_at dksJ4_add_0 12 rfl rfl)
theorem dJ4_add_13 : decode cJ4_add 13 = .ok (.getfield 9, 3) := dk_180 0 9 (dk_at dksJ4_add_0 13 rfl rfl)
theorem dJ4_add_16 : decode cJ4_add 16 = .ok (.aload_n 0, 1) := dk_42 (dk_at dksJ4_add_0 16 rfl rfl)
theorem dJ4_add_17 : decode cJ4_add 17 = .ok (.getfield 48, 3) := dk_180 0 48 (dk_at dksJ4_add_0 17 rfl rfl)
theorem dJ4_add_20 : decode cJ4_add 20 = .ok (.invokevirtual 131, 3) := dk_182 0 131 (dk_at dksJ4_add_0 20 rfl rfl)
theorem dJ4_add_23 : decode cJ4_add 23 = .ok (.iconst 1, 1) := dk_4 (dk_at dksJ4_add_0 23 rfl rfl)
theorem dJ4_add_24 : decode cJ4_add 24 = .ok (.ireturn, 1) := dk_172 (dk_at dksJ4_add_1 0 rfl rfl)
abbrev cJ4_add_2 : ByteArray := prog_44_method_24_code
def yJ4_add_2 : MethodName := ⟨RJ4, "add", "(Ljava/lang/Object;[Ljava/lang/Object;I)V"⟩
def dkwJ4_add_2_0 : List UInt8 := [29, 44, 190, 160, 0, 8, 42, 182, 0, 129, 77, 44, 29, 43, 83, 42, 29, 4, 96, 181, 0, 48, 177]
abbrev dktJ4_add_2_0 : List UInt8 := dkwJ4_add_2_0 ++ []
theorem dksJ4_add_2_0 : cJ4_add_2.data.toList.drop 0 = dktJ4_add_2_0 := by decide +kernel
theorem dJ4_add_2_0 : decode cJ4_add_2 0 = .ok (.iload_n 3, 1) := dk_29 (dk_at dksJ4_add_2_0 0 rfl rfl)
theorem dJ4_add_2_1 : decode cJ4_add_2 1 = .ok (.aload_n 2, 1) := dk_44 (dk_at dksJ4_add_2_0 1 rfl rfl)
theorem dJ4_add_2_2 : decode cJ4_add_2 2 = .ok (.arraylength, 1) := dk_190 (dk_at dksJ4_add_2_0 2 rfl rfl)
theorem dJ4_add_2_3 : decode cJ4_add_2 3 = .ok (.if_icmp .ne 8, 3) := dk_160 0 8 (dk_at dksJ4_add_2_0 3 rfl rfl)
theorem dJ4_add_2_6 : decode cJ4_add_2 6 = .ok (.aload_n 0, 1) := dk_42 (dk_at dksJ4_add_2_0 6 rfl rfl)
theorem dJ4_add_2_7 : decode cJ4_add_2 7 = .ok (.invokevirtual 129, 3) := dk_182 0 129 (dk_at dksJ4_add_2_0 7 rfl rfl)
theorem dJ4_add_2_10 : decode cJ4_add_2 10 = .ok (.astore_n 2, 1) := dk_77 (dk_at dksJ4_add_2_0 10 rfl rfl)
theorem dJ4_add_2_11 : decode cJ4_add_2 11 = .ok (.aload_n 2, 1) := dk_44 (dk_at dksJ4_add_2_0 11 rfl rfl)
theorem dJ4_add_2_12 : decode cJ4_add_2 12 = .ok (.iload_n 3, 1) := dk_29 (dk_at dksJ4_add_2_0 12 rfl rfl)
theorem dJ4_add_2_13 : decode cJ4_add_2 13 = .ok (.aload_n 1, 1) := dk_43 (dk_at dksJ4_add_2_0 13 rfl rfl)
theorem dJ4_add_2_14 : decode cJ4_add_2 14 = .ok (.aastore, 1) := dk_83 (dk_at dksJ4_add_2_0 14 rfl rfl)
theorem dJ4_add_2_15 : decode cJ4_add_2 15 = .ok (.aload_n 0, 1) := dk_42 (dk_at dksJ4_add_2_0 15 rfl rfl)
theorem dJ4_add_2_16 : decode cJ4_add_2 16 = .ok (.iload_n 3, 1) := dk_29 (dk_at dksJ4_add_2_0 16 rfl rfl)
theorem dJ4_add_2_17 : decode cJ4_add_2 17 = .ok (.iconst 1, 1) := dk_4 (dk_at dksJ4_add_2_0 17 rfl rfl)
theorem dJ4_add_2_18 : decode cJ4_add_2 18 = .ok (.iadd, 1) := dk_96 (dk_at dksJ4_add_2_0 18 rfl rfl)
theorem dJ4_add_2_19 : decode cJ4_add_2 19 = .ok (.putfield 48, 3) := dk_181 0 48 (dk_at dksJ4_add_2_0 19 rfl rfl)
theorem dJ4_add_2_22 : decode cJ4_add_2 22 = .ok (.return_, 1) := dk_177 (dk_at dksJ4_add_2_0 22 rfl rfl)
abbrev cJ4_grow : ByteArray := prog_44_method_7_code
def yJ4_grow : MethodName := ⟨RJ4, "grow", "()[Ljava/lang/Object;"⟩
def dkwJ4_grow_0 : List UInt8 := [42, 42, 180, 0, 48, 4, 96, 182, 0, 69, 176]
abbrev dktJ4_grow_0 : List UInt8 := dkwJ4_grow_0 ++ []
theorem dksJ4_grow_0 : cJ4_grow.data.toList.drop 0 = dktJ4_grow_0 := by decide +kernel
theorem dJ4_grow_0 : decode cJ4_grow 0 = .ok (.aload_n 0, 1) := dk_42 (dk_at dksJ4_grow_0 0 rfl rfl)
theorem dJ4_grow_1 : decode cJ4_grow 1 = .ok (.aload_n 0, 1) := dk_42 (dk_at dksJ4_grow_0 1 rfl rfl)
theorem dJ4_grow_2 : decode cJ4_grow 2 = .ok (.getfield 48, 3) := dk_180 0 48 (dk_at dksJ4_grow_0 2 rfl rfl)
theorem dJ4_grow_5 : decode cJ4_grow 5 = .ok (.iconst 1, 1) := dk_4 (dk_at dksJ4_grow_0 5 rfl rfl)
theorem dJ4_grow_6 : decode cJ4_grow 6 = .ok (.iadd, 1) := dk_96 (dk_at dksJ4_grow_0 6 rfl rfl)
theorem dJ4_grow_7 : decode cJ4_grow 7 = .ok (.invokevirtual 69, 3) := dk_182 0 69 (dk_at dksJ4_grow_0 7 rfl rfl)
theorem dJ4_grow_10 : decode cJ4_grow 10 = .ok (.areturn, 1) := dk_176 (dk_at dksJ4_grow_0 10 rfl rfl)
abbrev cJ4_grow_2 : ByteArray := prog_44_method_6_code
def yJ4_grow_2 : MethodName := ⟨RJ4, "grow", "(I)[Ljava/lang/Object;"⟩
def dkwJ4_grow_2_2 : List UInt8 := [27, 184, 0, 79, 189, 0, 7, 90, 181, 0, 9, 176]
abbrev dktJ4_grow_2_2 : List UInt8 := dkwJ4_grow_2_2 ++ []
def dkwJ4_grow_2_1 : List UInt8 := [28, 4, 122, 184, 0, 73, 62, 42, 42, 180, 0, 9, 29, 184, 0, 66, 90, 181, 0, 9, 176, 42, 16, 10]
abbrev dktJ4_grow_2_1 : List UInt8 := dkwJ4_grow_2_1 ++ dktJ4_grow_2_2
def dkwJ4_grow_2_0 : List UInt8 := [42, 180, 0, 9, 190, 61, 28, 157, 0, 13, 42, 180, 0, 9, 178, 0, 39, 165, 0, 28, 28, 27, 28, 100]
abbrev dktJ4_grow_2_0 : List UInt8 := dkwJ4_grow_2_0 ++ dktJ4_grow_2_1
theorem dksJ4_grow_2_0 : cJ4_grow_2.data.toList.drop 0 = dktJ4_grow_2_0 := by decide +kernel
theorem dksJ4_grow_2_1 : cJ4_grow_2.data.toList.drop 24 = dktJ4_grow_2_1 := dk_seg dksJ4_grow_2_0 24 rfl rfl
theorem dksJ4_grow_2_2 : cJ4_grow_2.data.toList.drop 48 = dktJ4_grow_2_2 := dk_seg dksJ4_grow_2_1 24 rfl rfl
theorem dJ4_grow_2_0 : decode cJ4_grow_2 0 = .ok (.aload_n 0, 1) := dk_42 (dk_at dksJ4_grow_2_0 0 rfl rfl)
theorem dJ4_grow_2_1 : decode cJ4_grow_2 1 = .ok (.getfield 9, 3) := dk_180 0 9 (dk_at dksJ4_grow_2_0 1 rfl rfl)
theorem dJ4_grow_2_4 : decode cJ4_grow_2 4 = .ok (.arraylength, 1) := dk_190 (dk_at dksJ4_grow_2_0 4 rfl rfl)
theorem dJ4_grow_2_5 : decode cJ4_grow_2 5 = .ok (.istore_n 2, 1) := dk_61 (dk_at dksJ4_grow_2_0 5 rfl rfl)
theorem dJ4_grow_2_6 : decode cJ4_grow_2 6 = .ok (.iload_n 2, 1) := dk_28 (dk_at dksJ4_grow_2_0 6 rfl rfl)
theorem dJ4_grow_2_7 : decode cJ4_grow_2 7 = .ok (.ifCond .gt 13, 3) := dk_157 0 13 (dk_at dksJ4_grow_2_0 7 rfl rfl)
theorem dJ4_grow_2_10 : decode cJ4_grow_2 10 = .ok (.aload_n 0, 1) := dk_42 (dk_at dksJ4_grow_2_0 10 rfl rfl)
theorem dJ4_grow_2_11 : decode cJ4_grow_2 11 = .ok (.getfield 9, 3) := dk_180 0 9 (dk_at dksJ4_grow_2_0 11 rfl rfl)
theorem dJ4_grow_2_14 : decode cJ4_grow_2 14 = .ok (.getstatic 39, 3) := dk_178 0 39 (dk_at dksJ4_grow_2_0 14 rfl rfl)
theorem dJ4_grow_2_17 : decode cJ4_grow_2 17 = .ok (.if_acmp .eq 28, 3) := dk_165 0 28 (dk_at dksJ4_grow_2_0 17 rfl rfl)
theorem dJ4_grow_2_20 : decode cJ4_grow_2 20 = .ok (.iload_n 2, 1) := dk_28 (dk_at dksJ4_grow_2_0 20 rfl rfl)
theorem dJ4_grow_2_21 : decode cJ4_grow_2 21 = .ok (.iload_n 1, 1) := dk_27 (dk_at dksJ4_grow_2_0 21 rfl rfl)
theorem dJ4_grow_2_22 : decode cJ4_grow_2 22 = .ok (.iload_n 2, 1) := dk_28 (dk_at dksJ4_grow_2_0 22 rfl rfl)
theorem dJ4_grow_2_23 : decode cJ4_grow_2 23 = .ok (.isub, 1) := dk_100 (dk_at dksJ4_grow_2_0 23 rfl rfl)
theorem dJ4_grow_2_24 : decode cJ4_grow_2 24 = .ok (.iload_n 2, 1) := dk_28 (dk_at dksJ4_grow_2_1 0 rfl rfl)
theorem dJ4_grow_2_25 : decode cJ4_grow_2 25 = .ok (.iconst 1, 1) := dk_4 (dk_at dksJ4_grow_2_1 1 rfl rfl)
theorem dJ4_grow_2_26 : decode cJ4_grow_2 26 = .ok (.ishr, 1) := dk_122 (dk_at dksJ4_grow_2_1 2 rfl rfl)
theorem dJ4_grow_2_27 : decode cJ4_grow_2 27 = .ok (.invokestatic 73, 3) := dk_184 0 73 (dk_at dksJ4_grow_2_1 3 rfl rfl)
theorem dJ4_grow_2_30 : decode cJ4_grow_2 30 = .ok (.istore_n 3, 1) := dk_62 (dk_at dksJ4_grow_2_1 6 rfl rfl)
theorem dJ4_grow_2_31 : decode cJ4_grow_2 31 = .ok (.aload_n 0, 1) := dk_42 (dk_at dksJ4_grow_2_1 7 rfl rfl)
theorem dJ4_grow_2_32 : decode cJ4_grow_2 32 = .ok (.aload_n 0, 1) := dk_42 (dk_at dksJ4_grow_2_1 8 rfl rfl)
theorem dJ4_grow_2_33 : decode cJ4_grow_2 33 = .ok (.getfield 9, 3) := dk_180 0 9 (dk_at dksJ4_grow_2_1 9 rfl rfl)
theorem dJ4_grow_2_36 : decode cJ4_grow_2 36 = .ok (.iload_n 3, 1) := dk_29 (dk_at dksJ4_grow_2_1 12 rfl rfl)
theorem dJ4_grow_2_37 : decode cJ4_grow_2 37 = .ok (.invokestatic 66, 3) := dk_184 0 66 (dk_at dksJ4_grow_2_1 13 rfl rfl)
theorem dJ4_grow_2_40 : decode cJ4_grow_2 40 = .ok (.dup_x1, 1) := dk_90 (dk_at dksJ4_grow_2_1 16 rfl rfl)
theorem dJ4_grow_2_41 : decode cJ4_grow_2 41 = .ok (.putfield 9, 3) := dk_181 0 9 (dk_at dksJ4_grow_2_1 17 rfl rfl)
theorem dJ4_grow_2_44 : decode cJ4_grow_2 44 = .ok (.areturn, 1) := dk_176 (dk_at dksJ4_grow_2_1 20 rfl rfl)
theorem dJ4_grow_2_45 : decode cJ4_grow_2 45 = .ok (.aload_n 0, 1) := dk_42 (dk_at dksJ4_grow_2_1 21 rfl rfl)
theorem dJ4_grow_2_46 : decode cJ4_grow_2 46 = .ok (.bipush 10, 2) := dk_16 10 (dk_at dksJ4_grow_2_1 22 rfl rfl)
theorem dJ4_grow_2_48 : decode cJ4_grow_2 48 = .ok (.iload_n 1, 1) := dk_27 (dk_at dksJ4_grow_2_2 0 rfl rfl)
theorem dJ4_grow_2_49 : decode cJ4_grow_2 49 = .ok (.invokestatic 79, 3) := dk_184 0 79 (dk_at dksJ4_grow_2_2 1 rfl rfl)
theorem dJ4_grow_2_52 : decode cJ4_grow_2 52 = .ok (.anewarray 7, 3) := dk_189 0 7 (dk_at dksJ4_grow_2_2 4 rfl rfl)
theorem dJ4_grow_2_55 : decode cJ4_grow_2 55 = .ok (.dup_x1, 1) := dk_90 (dk_at dksJ4_grow_2_2 7 rfl rfl)
theorem dJ4_grow_2_56 : decode cJ4_grow_2 56 = .ok (.putfield 9, 3) := dk_181 0 9 (dk_at dksJ4_grow_2_2 8 rfl rfl)
theorem dJ4_grow_2_59 : decode cJ4_grow_2 59 = .ok (.areturn, 1) := dk_176 (dk_at dksJ4_grow_2_2 11 rfl rfl)
abbrev cJ4_get : ByteArray := prog_44_method_20_code
def yJ4_get : MethodName := ⟨RJ4, "get", "(I)Ljava/lang/Object;"⟩
def dkwJ4_get_0 : List UInt8 := [27, 42, 180, 0, 48, 184, 0, 118, 87, 42, 27, 182, 0, 123, 176]
abbrev dktJ4_get_0 : List UInt8 := dkwJ4_get_0 ++ []
theorem dksJ4_get_0 : cJ4_get.data.toList.drop 0 = dktJ4_get_0 := by decide +kernel
theorem dJ4_get_0 : decode cJ4_get 0 = .ok (.iload_n 1, 1) := dk_27 (dk_at dksJ4_get_0 0 rfl rfl)
theorem dJ4_get_1 : decode cJ4_get 1 = .ok (.aload_n 0, 1) := dk_42 (dk_at dksJ4_get_0 1 rfl rfl)
theorem dJ4_get_2 : decode cJ4_get 2 = .ok (.getfield 48, 3) := dk_180 0 48 (dk_at dksJ4_get_0 2 rfl rfl)
theorem dJ4_get_5 : decode cJ4_get 5 = .ok (.invokestatic 118, 3) := dk_184 0 118 (dk_at dksJ4_get_0 5 rfl rfl)
theorem dJ4_get_8 : decode cJ4_get 8 = .ok (.pop, 1) := dk_87 (dk_at dksJ4_get_0 8 rfl rfl)
theorem dJ4_get_9 : decode cJ4_get 9 = .ok (.aload_n 0, 1) := dk_42 (dk_at dksJ4_get_0 9 rfl rfl)
theorem dJ4_get_10 : decode cJ4_get 10 = .ok (.iload_n 1, 1) := dk_27 (dk_at dksJ4_get_0 10 rfl rfl)
theorem dJ4_get_11 : decode cJ4_get 11 = .ok (.invokevirtual 123, 3) := dk_182 0 123 (dk_at dksJ4_get_0 11 rfl rfl)
theorem dJ4_get_14 : decode cJ4_get 14 = .ok (.areturn, 1) := dk_176 (dk_at dksJ4_get_0 14 rfl rfl)
abbrev cJ4_elementData : ByteArray := prog_44_method_18_code
def yJ4_elementData : MethodName := ⟨RJ4, "elementData", "(I)Ljava/lang/Object;"⟩
def dkwJ4_elementData_0 : List UInt8 := [42, 180, 0, 9, 27, 50, 176]
abbrev dktJ4_elementData_0 : List UInt8 := dkwJ4_elementData_0 ++ []
theorem dksJ4_elementData_0 : cJ4_elementData.data.toList.drop 0 = dktJ4_elementData_0 := by decide +kernel
theorem dJ4_elementData_0 : decode cJ4_elementData 0 = .ok (.aload_n 0, 1) := dk_42 (dk_at dksJ4_elementData_0 0 rfl rfl)
theorem dJ4_elementData_1 : decode cJ4_elementData 1 = .ok (.getfield 9, 3) := dk_180 0 9 (dk_at dksJ4_elementData_0 1 rfl rfl)
theorem dJ4_elementData_4 : decode cJ4_elementData 4 = .ok (.iload_n 1, 1) := dk_27 (dk_at dksJ4_elementData_0 4 rfl rfl)
theorem dJ4_elementData_5 : decode cJ4_elementData 5 = .ok (.aaload, 1) := dk_50 (dk_at dksJ4_elementData_0 5 rfl rfl)
theorem dJ4_elementData_6 : decode cJ4_elementData 6 = .ok (.areturn, 1) := dk_176 (dk_at dksJ4_elementData_0 6 rfl rfl)
abbrev cJ4_add_3 : ByteArray := prog_44_method_26_code
def yJ4_add_3 : MethodName := ⟨RJ4, "add", "(ILjava/lang/Object;)V"⟩
def dkwJ4_add_3_2 : List UInt8 := [29, 27, 100, 184, 0, 112, 25, 4, 27, 44, 83, 42, 29, 4, 96, 181, 0, 48, 177]
abbrev dktJ4_add_3_2 : List UInt8 := dkwJ4_add_3_2 ++ []
def dkwJ4_add_3_1 : List UInt8 := [180, 0, 9, 89, 58, 4, 190, 160, 0, 9, 42, 182, 0, 129, 58, 4, 25, 4, 27, 25, 4, 27, 4, 96]
abbrev dktJ4_add_3_1 : List UInt8 := dkwJ4_add_3_1 ++ dktJ4_add_3_2
def dkwJ4_add_3_0 : List UInt8 := [42, 27, 182, 0, 135, 42, 89, 180, 0, 63, 4, 96, 181, 0, 63, 42, 180, 0, 48, 89, 62, 42]
abbrev dktJ4_add_3_0 : List UInt8 := dkwJ4_add_3_0 ++ dktJ4_add_3_1
theorem dksJ4_add_3_0 : cJ4_add_3.data.toList.drop 0 = dktJ4_add_3_0 := by decide +kernel
theorem dksJ4_add_3_1 : cJ4_add_3.data.toList.drop 22 = dktJ4_add_3_1 := dk_seg dksJ4_add_3_0 22 rfl rfl
theorem dksJ4_add_3_2 : cJ4_add_3.data.toList.drop 46 = dktJ4_add_3_2 := dk_seg dksJ4_add_3_1 24 rfl rfl
theorem dJ4_add_3_0 : decode cJ4_add_3 0 = .ok (.aload_n 0, 1) := dk_42 (dk_at dksJ4_add_3_0 0 rfl rfl)
theorem dJ4_add_3_1 : decode cJ4_add_3 1 = .ok (.iload_n 1, 1) := dk_27 (dk_at dksJ4_add_3_0 1 rfl rfl)
theorem dJ4_add_3_2 : decode cJ4_add_3 2 = .ok (.invokevirtual 135, 3) := dk_182 0 135 (dk_at dksJ4_add_3_0 2 rfl rfl)
theorem dJ4_add_3_5 : decode cJ4_add_3 5 = .ok (.aload_n 0, 1) := dk_42 (dk_at dksJ4_add_3_0 5 rfl rfl)
theorem dJ4_add_3_6 : decode cJ4_add_3 6 = .ok (.dup, 1) := dk_89 (dk_at dksJ4_add_3_0 6 rfl rfl)
theorem dJ4_add_3_7 : decode cJ4_add_3 7 = .ok (.getfield 63, 3) := dk_180 0 63 (dk_at dksJ4_add_3_0 7 rfl rfl)
theorem dJ4_add_3_10 : decode cJ4_add_3 10 = .ok (.iconst 1, 1) := dk_4 (dk_at dksJ4_add_3_0 10 rfl rfl)
theorem dJ4_add_3_11 : decode cJ4_add_3 11 = .ok (.iadd, 1) := dk_96 (dk_at dksJ4_add_3_0 11 rfl rfl)
theorem dJ4_add_3_12 : decode cJ4_add_3 12 = .ok (.putfield 63, 3) := dk_181 0 63 (dk_at dksJ4_add_3_0 12 rfl rfl)
theorem dJ4_add_3_15 : decode cJ4_add_3 15 = .ok (.aload_n 0, 1) := dk_42 (dk_at dksJ4_add_3_0 15 rfl rfl)
theorem dJ4_add_3_16 : decode cJ4_add_3 16 = .ok (.getfield 48, 3) := dk_180 0 48 (dk_at dksJ4_add_3_0 16 rfl rfl)
theorem dJ4_add_3_19 : decode cJ4_add_3 19 = .ok (.dup, 1) := dk_89 (dk_at dksJ4_add_3_0 19 rfl rfl)
theorem dJ4_add_3_20 : decode cJ4_add_3 20 = .ok (.istore_n 3, 1) := dk_62 (dk_at dksJ4_add_3_0 20 rfl rfl)
theorem dJ4_add_3_21 : decode cJ4_add_3 21 = .ok (.aload_n 0, 1) := dk_42 (dk_at dksJ4_add_3_0 21 rfl rfl)
theorem dJ4_add_3_22 : decode cJ4_add_3 22 = .ok (.getfield 9, 3) := dk_180 0 9 (dk_at dksJ4_add_3_1 0 rfl rfl)
theorem dJ4_add_3_25 : decode cJ4_add_3 25 = .ok (.dup, 1) := dk_89 (dk_at dksJ4_add_3_1 3 rfl rfl)
theorem dJ4_add_3_26 : decode cJ4_add_3 26 = .ok (.astore 4, 2) := dk_58 4 (dk_at dksJ4_add_3_1 4 rfl rfl)
theorem dJ4_add_3_28 : decode cJ4_add_3 28 = .ok (.arraylength, 1) := dk_190 (dk_at dksJ4_add_3_1 6 rfl rfl)
theorem dJ4_add_3_29 : decode cJ4_add_3 29 = .ok (.if_icmp .ne 9, 3) := dk_160 0 9 (dk_at dksJ4_add_3_1 7 rfl rfl)
theorem dJ4_add_3_32 : decode cJ4_add_3 32 = .ok (.aload_n 0, 1) := dk_42 (dk_at dksJ4_add_3_1 10 rfl rfl)
theorem dJ4_add_3_33 : decode cJ4_add_3 33 = .ok (.invokevirtual 129, 3) := dk_182 0 129 (dk_at dksJ4_add_3_1 11 rfl rfl)
theorem dJ4_add_3_36 : decode cJ4_add_3 36 = .ok (.astore 4, 2) := dk_58 4 (dk_at dksJ4_add_3_1 14 rfl rfl)
theorem dJ4_add_3_38 : decode cJ4_add_3 38 = .ok (.aload 4, 2) := dk_25 4 (dk_at dksJ4_add_3_1 16 rfl rfl)
theorem dJ4_add_3_40 : decode cJ4_add_3 40 = .ok (.iload_n 1, 1) := dk_27 (dk_at dksJ4_add_3_1 18 rfl rfl)
theorem dJ4_add_3_41 : decode cJ4_add_3 41 = .ok (.aload 4, 2) := dk_25 4 (dk_at dksJ4_add_3_1 19 rfl rfl)
theorem dJ4_add_3_43 : decode cJ4_add_3 43 = .ok (.iload_n 1, 1) := dk_27 (dk_at dksJ4_add_3_1 21 rfl rfl)
theorem dJ4_add_3_44 : decode cJ4_add_3 44 = .ok (.iconst 1, 1) := dk_4 (dk_at dksJ4_add_3_1 22 rfl rfl)
theorem dJ4_add_3_45 : decode cJ4_add_3 45 = .ok (.iadd, 1) := dk_96 (dk_at dksJ4_add_3_1 23 rfl rfl)
theorem dJ4_add_3_46 : decode cJ4_add_3 46 = .ok (.iload_n 3, 1) := dk_29 (dk_at dksJ4_add_3_2 0 rfl rfl)
theorem dJ4_add_3_47 : decode cJ4_add_3 47 = .ok (.iload_n 1, 1) := dk_27 (dk_at dksJ4_add_3_2 1 rfl rfl)
theorem dJ4_add_3_48 : decode cJ4_add_3 48 = .ok (.isub, 1) := dk_100 (dk_at dksJ4_add_3_2 2 rfl rfl)
theorem dJ4_add_3_49 : decode cJ4_add_3 49 = .ok (.invokestatic 112, 3) := dk_184 0 112 (dk_at dksJ4_add_3_2 3 rfl rfl)
theorem dJ4_add_3_52 : decode cJ4_add_3 52 = .ok (.aload 4, 2) := dk_25 4 (dk_at dksJ4_add_3_2 6 rfl rfl)
theorem dJ4_add_3_54 : decode cJ4_add_3 54 = .ok (.iload_n 1, 1) := dk_27 (dk_at dksJ4_add_3_2 8 rfl rfl)
theorem dJ4_add_3_55 : decode cJ4_add_3 55 = .ok (.aload_n 2, 1) := dk_44 (dk_at dksJ4_add_3_2 9 rfl rfl)
theorem dJ4_add_3_56 : decode cJ4_add_3 56 = .ok (.aastore, 1) := dk_83 (dk_at dksJ4_add_3_2 10 rfl rfl)
theorem dJ4_add_3_57 : decode cJ4_add_3 57 = .ok (.aload_n 0, 1) := dk_42 (dk_at dksJ4_add_3_2 11 rfl rfl)
theorem dJ4_add_3_58 : decode cJ4_add_3 58 = .ok (.iload_n 3, 1) := dk_29 (dk_at dksJ4_add_3_2 12 rfl rfl)
theorem dJ4_add_3_59 : decode cJ4_add_3 59 = .ok (.iconst 1, 1) := dk_4 (dk_at dksJ4_add_3_2 13 rfl rfl)
theorem dJ4_add_3_60 : decode cJ4_add_3 60 = .ok (.iadd, 1) := dk_96 (dk_at dksJ4_add_3_2 14 rfl rfl)
theorem dJ4_add_3_61 : decode cJ4_add_3 61 = .ok (.putfield 48, 3) := dk_181 0 48 (dk_at dksJ4_add_3_2 15 rfl rfl)
theorem dJ4_add_3_64 : decode cJ4_add_3 64 = .ok (.return_, 1) := dk_177 (dk_at dksJ4_add_3_2 18 rfl rfl)
abbrev cJ4_rangeCheckForAdd : ByteArray := prog_44_method_45_code
def yJ4_rangeCheckForAdd : MethodName := ⟨RJ4, "rangeCheckForAdd", "(I)V"⟩
def dkwJ4_rangeCheckForAdd_1 : List UInt8 := [191, 177]
abbrev dktJ4_rangeCheckForAdd_1 : List UInt8 := dkwJ4_rangeCheckForAdd_1 ++ []
def dkwJ4_rangeCheckForAdd_0 : List UInt8 := [27, 42, 180, 0, 48, 163, 0, 7, 27, 156, 0, 16, 187, 0, 187, 89, 42, 27, 182, 0, 198, 183, 0, 193]
abbrev dktJ4_rangeCheckForAdd_0 : List UInt8 := dkwJ4_rangeCheckForAdd_0 ++ dktJ4_rangeCheckForAdd_1
theorem dksJ4_rangeCheckForAdd_0 : cJ4_rangeCheckForAdd.data.toList.drop 0 = dktJ4_rangeCheckForAdd_0 := by decide +kernel
theorem dksJ4_rangeCheckForAdd_1 : cJ4_rangeCheckForAdd.data.toList.drop 24 = dktJ4_rangeCheckForAdd_1 := dk_seg dksJ4_rangeCheckForAdd_0 24 rfl rfl
theorem dJ4_rangeCheckForAdd_0 : decode cJ4_rangeCheckForAdd 0 = .ok (.iload_n 1, 1) := dk_27 (dk_at dksJ4_rangeCheckForAdd_0 0 rfl rfl)
theorem dJ4_rangeCheckForAdd_1 : decode cJ4_rangeCheckForAdd 1 = .ok (.aload_n 0, 1) := dk_42 (dk_at dksJ4_rangeCheckForAdd_0 1 rfl rfl)
theorem dJ4_rangeCheckForAdd_2 : decode cJ4_rangeCheckForAdd 2 = .ok (.getfield 48, 3) := dk_180 0 48 (dk_at dksJ4_rangeCheckForAdd_0 2 rfl rfl)
theorem dJ4_rangeCheckForAdd_5 : decode cJ4_rangeCheckForAdd 5 = .ok (.if_icmp .gt 7, 3) := dk_163 0 7 (dk_at dksJ4_rangeCheckForAdd_0 5 rfl rfl)
theorem dJ4_rangeCheckForAdd_8 : decode cJ4_rangeCheckForAdd 8 = .ok (.iload_n 1, 1) := dk_27 (dk_at dksJ4_rangeCheckForAdd_0 8 rfl rfl)
theorem dJ4_rangeCheckForAdd_9 : decode cJ4_rangeCheckForAdd 9 = .ok (.ifCond .ge 16, 3) := dk_156 0 16 (dk_at dksJ4_rangeCheckForAdd_0 9 rfl rfl)
theorem dJ4_rangeCheckForAdd_12 : decode cJ4_rangeCheckForAdd 12 = .ok (.new 187, 3) := dk_187 0 187 (dk_at dksJ4_rangeCheckForAdd_0 12 rfl rfl)
theorem dJ4_rangeCheckForAdd_15 : decode cJ4_rangeCheckForAdd 15 = .ok (.dup, 1) := dk_89 (dk_at dksJ4_rangeCheckForAdd_0 15 rfl rfl)
theorem dJ4_rangeCheckForAdd_16 : decode cJ4_rangeCheckForAdd 16 = .ok (.aload_n 0, 1) := dk_42 (dk_at dksJ4_rangeCheckForAdd_0 16 rfl rfl)
theorem dJ4_rangeCheckForAdd_17 : decode cJ4_rangeCheckForAdd 17 = .ok (.iload_n 1, 1) := dk_27 (dk_at dksJ4_rangeCheckForAdd_0 17 rfl rfl)
theorem dJ4_rangeCheckForAdd_18 : decode cJ4_rangeCheckForAdd 18 = .ok (.invokevirtual 198, 3) := dk_182 0 198 (dk_at dksJ4_rangeCheckForAdd_0 18 rfl rfl)
theorem dJ4_rangeCheckForAdd_21 : decode cJ4_rangeCheckForAdd 21 = .ok (.invokespecial 193, 3) := dk_183 0 193 (dk_at dksJ4_rangeCheckForAdd_0 21 rfl rfl)
theorem dJ4_rangeCheckForAdd_24 : decode cJ4_rangeCheckForAdd 24 = .ok (.athrow, 1) := dk_191 (dk_at dksJ4_rangeCheckForAdd_1 0 rfl rfl)
theorem dJ4_rangeCheckForAdd_25 : decode cJ4_rangeCheckForAdd 25 = .ok (.return_, 1) := dk_177 (dk_at dksJ4_rangeCheckForAdd_1 1 rfl rfl)
theorem q45 : (Jvm.Cond.initialized "java/util/ArrayList") ∈ lw_all := lw_g (lw_at lw_m1 10 rfl) rfl
theorem q148 : (Jvm.Cond.instantiable "java/util/ArrayList" (3 : Nat)) ∈ lw_all := lw_g (lw_at lw_m1 113 rfl) rfl
theorem q150 : (Jvm.Cond.instanceMethod ({ cls := "java/util/ArrayList", name := "<init>", desc := "()V" } : Jvm.MethodName)) ∈ lw_all := lw_g (lw_at lw_m1 115 rfl) rfl
theorem q151 : (Jvm.Cond.code ({ cls := "java/util/ArrayList", name := "<init>", desc := "()V" } : Jvm.MethodName) prog_44_method_2_code (1 : Nat) (Option.none : Option Jvm.ClassFile.FieldType)) ∈ lw_all := lw_g (lw_at lw_m1 116 rfl) rfl
theorem q152 : (Jvm.Cond.methodLink "java/util/ArrayList" (1 : Nat) ({ cls := "java/util/AbstractList", name := "<init>", desc := "()V" } : Jvm.MethodName)) ∈ lw_all := lw_g (lw_at lw_m1 117 rfl) rfl
theorem q159 : (Jvm.Cond.fieldLink "java/util/ArrayList" (39 : Nat) "java/util/ArrayList" "DEFAULTCAPACITY_EMPTY_ELEMENTDATA" "[Ljava/lang/Object;") ∈ lw_all := lw_g (lw_at lw_m1 124 rfl) rfl
theorem q160 : (Jvm.Cond.laysStatic "java/util/ArrayList" "DEFAULTCAPACITY_EMPTY_ELEMENTDATA" "[Ljava/lang/Object;") ∈ lw_tbl := lw_at lw_m1 125 rfl
theorem q161 : (Jvm.Cond.fieldLink "java/util/ArrayList" (9 : Nat) "java/util/ArrayList" "elementData" "[Ljava/lang/Object;") ∈ lw_all := lw_g (lw_at lw_m1 126 rfl) rfl
theorem q164 : (Jvm.Cond.fieldLink "java/util/ArrayList" (48 : Nat) "java/util/ArrayList" "size" "I") ∈ lw_all := lw_g (lw_at lw_m1 129 rfl) rfl
theorem q167 : (Jvm.Cond.sameField "java/util/ArrayList" "java/util/AbstractList" "modCount" "I") ∈ lw_all := lw_g (lw_at lw_m1 132 rfl) rfl
theorem q168 : (Jvm.Cond.fieldLink "java/util/ArrayList" (63 : Nat) "java/util/ArrayList" "modCount" "I") ∈ lw_all := lw_g (lw_at lw_m1 133 rfl) rfl
theorem q169 : (Jvm.Cond.lays "java/util/ArrayList" "java/util/ArrayList" "elementData" "[Ljava/lang/Object;") ∈ lw_all := lw_g (lw_at lw_m1 134 rfl) rfl
theorem q170 : (Jvm.Cond.soleField "java/util/ArrayList" "elementData") ∈ lw_all := lw_g (lw_at lw_m1 135 rfl) rfl
theorem q171 : (Jvm.Cond.lays "java/util/ArrayList" "java/util/ArrayList" "size" "I") ∈ lw_all := lw_g (lw_at lw_m1 136 rfl) rfl
theorem q172 : (Jvm.Cond.soleField "java/util/ArrayList" "size") ∈ lw_all := lw_g (lw_at lw_m1 137 rfl) rfl
theorem q173 : (Jvm.Cond.lays "java/util/ArrayList" "java/util/AbstractList" "modCount" "I") ∈ lw_all := lw_g (lw_at lw_m1 138 rfl) rfl
theorem q175 : (Jvm.Cond.superclass "java/util/ArrayList" "java/util/AbstractList") ∈ lw_all := lw_g (lw_at lw_m1 140 rfl) rfl
theorem q217 : (Jvm.Cond.castable "java/util/ArrayList" "java/util/List") ∈ lw_tbl := lw_at lw_m1 182 rfl
theorem q218 : (Jvm.Cond.selects "java/util/ArrayList" ({ cls := "java/util/List", name := "size", desc := "()I" } : Jvm.MethodName) ({ cls := "java/util/ArrayList", name := "size", desc := "()I" } : Jvm.MethodName)) ∈ lw_all := lw_g (lw_at lw_m1 183 rfl) rfl
theorem q219 : (Jvm.Cond.unhidden "java/util/ArrayList" "size" "()I") ∈ lw_tbl := lw_at lw_m1 184 rfl
theorem q220 : (Jvm.Cond.instanceMethod ({ cls := "java/util/ArrayList", name := "size", desc := "()I" } : Jvm.MethodName)) ∈ lw_all := lw_g (lw_at lw_m1 185 rfl) rfl
theorem q221 : (Jvm.Cond.publicMethod ({ cls := "java/util/ArrayList", name := "size", desc := "()I" } : Jvm.MethodName)) ∈ lw_tbl := lw_at lw_m1 186 rfl
theorem q222 : (Jvm.Cond.code ({ cls := "java/util/ArrayList", name := "size", desc := "()I" } : Jvm.MethodName) prog_44_method_8_code (1 : Nat) (Option.some Jvm.ClassFile.FieldType.int)) ∈ lw_all := lw_g (lw_at lw_m1 187 rfl) rfl
theorem q227 : (Jvm.Cond.selects "java/util/ArrayList" ({ cls := "java/util/List", name := "isEmpty", desc := "()Z" } : Jvm.MethodName) ({ cls := "java/util/ArrayList", name := "isEmpty", desc := "()Z" } : Jvm.MethodName)) ∈ lw_all := lw_g (lw_at lw_m1 192 rfl) rfl
theorem q228 : (Jvm.Cond.unhidden "java/util/ArrayList" "isEmpty" "()Z") ∈ lw_tbl := lw_at lw_m1 193 rfl
theorem q229 : (Jvm.Cond.instanceMethod ({ cls := "java/util/ArrayList", name := "isEmpty", desc := "()Z" } : Jvm.MethodName)) ∈ lw_all := lw_g (lw_at lw_m1 194 rfl) rfl
theorem q230 : (Jvm.Cond.publicMethod ({ cls := "java/util/ArrayList", name := "isEmpty", desc := "()Z" } : Jvm.MethodName)) ∈ lw_tbl := lw_at lw_m1 195 rfl
theorem q231 : (Jvm.Cond.code ({ cls := "java/util/ArrayList", name := "isEmpty", desc := "()Z" } : Jvm.MethodName) prog_44_method_9_code (1 : Nat) (Option.some Jvm.ClassFile.FieldType.boolean)) ∈ lw_all := lw_g (lw_at lw_m1 196 rfl) rfl
theorem q236 : (Jvm.Cond.selects "java/util/ArrayList" ({ cls := "java/util/List", name := "remove", desc := "(I)Ljava/lang/Object;" } : Jvm.MethodName) ({ cls := "java/util/ArrayList", name := "remove", desc := "(I)Ljava/lang/Object;" } : Jvm.MethodName)) ∈ lw_all := lw_g (lw_at lw_m1 201 rfl) rfl
theorem q237 : (Jvm.Cond.unhidden "java/util/ArrayList" "remove" "(I)Ljava/lang/Object;") ∈ lw_tbl := lw_at lw_m1 202 rfl
theorem q238 : (Jvm.Cond.instanceMethod ({ cls := "java/util/ArrayList", name := "remove", desc := "(I)Ljava/lang/Object;" } : Jvm.MethodName)) ∈ lw_all := lw_g (lw_at lw_m1 203 rfl) rfl
theorem q239 : (Jvm.Cond.publicMethod ({ cls := "java/util/ArrayList", name := "remove", desc := "(I)Ljava/lang/Object;" } : Jvm.MethodName)) ∈ lw_tbl := lw_at lw_m1 204 rfl
theorem q240 : (Jvm.Cond.code ({ cls := "java/util/ArrayList", name := "remove", desc := "(I)Ljava/lang/Object;" } : Jvm.MethodName) prog_44_method_29_code (4 : Nat) (Option.some (Jvm.ClassFile.FieldType.object "java/lang/Object"))) ∈ lw_all := lw_g (lw_at lw_m1 205 rfl) rfl
theorem q241 : (Jvm.Cond.methodLink "java/util/ArrayList" (118 : Nat) ({ cls := "java/util/Objects", name := "checkIndex", desc := "(II)I" } : Jvm.MethodName)) ∈ lw_all := lw_g (lw_at lw_m1 206 rfl) rfl
theorem q247 : (Jvm.Cond.methodLink "java/util/ArrayList" (144 : Nat) ({ cls := "java/util/ArrayList", name := "fastRemove", desc := "([Ljava/lang/Object;I)V" } : Jvm.MethodName)) ∈ lw_all := lw_g (lw_at lw_m1 212 rfl) rfl
theorem q248 : (Jvm.Cond.privateMethod ({ cls := "java/util/ArrayList", name := "fastRemove", desc := "([Ljava/lang/Object;I)V" } : Jvm.MethodName)) ∈ lw_tbl := lw_at lw_m1 213 rfl
theorem q249 : (Jvm.Cond.instanceMethod ({ cls := "java/util/ArrayList", name := "fastRemove", desc := "([Ljava/lang/Object;I)V" } : Jvm.MethodName)) ∈ lw_all := lw_g (lw_at lw_m1 214 rfl) rfl
theorem q250 : (Jvm.Cond.code ({ cls := "java/util/ArrayList", name := "fastRemove", desc := "([Ljava/lang/Object;I)V" } : Jvm.MethodName) prog_44_method_39_code (4 : Nat) (Option.none : Option Jvm.ClassFile.FieldType)) ∈ lw_all := lw_g (lw_at lw_m1 215 rfl) rfl
theorem q251 : (Jvm.Cond.methodLink "java/util/ArrayList" (112 : Nat) ({ cls := "java/lang/System", name := "arraycopy", desc := "(Ljava/lang/Object;ILjava/lang/Object;II)V" } : Jvm.MethodName)) ∈ lw_all := lw_g (lw_at lw_m1 216 rfl) rfl
theorem q262 : (Jvm.Cond.selects "java/util/ArrayList" ({ cls := "java/util/List", name := "iterator", desc := "()Ljava/util/Iterator;" } : Jvm.MethodName) ({ cls := "java/util/ArrayList", name := "iterator", desc := "()Ljava/util/Iterator;" } : Jvm.MethodName)) ∈ lw_all := lw_g (lw_at lw_m1 227 rfl) rfl
theorem q263 : (Jvm.Cond.unhidden "java/util/ArrayList" "iterator" "()Ljava/util/Iterator;") ∈ lw_tbl := lw_at lw_m1 228 rfl
theorem q264 : (Jvm.Cond.instanceMethod ({ cls := "java/util/ArrayList", name := "iterator", desc := "()Ljava/util/Iterator;" } : Jvm.MethodName)) ∈ lw_all := lw_g (lw_at lw_m1 229 rfl) rfl
theorem q265 : (Jvm.Cond.publicMethod ({ cls := "java/util/ArrayList", name := "iterator", desc := "()Ljava/util/Iterator;" } : Jvm.MethodName)) ∈ lw_tbl := lw_at lw_m1 230 rfl
theorem q266 : (Jvm.Cond.code ({ cls := "java/util/ArrayList", name := "iterator", desc := "()Ljava/util/Iterator;" } : Jvm.MethodName) prog_44_method_55_code (1 : Nat) (Option.some (Jvm.ClassFile.FieldType.object "java/util/Iterator"))) ∈ lw_all := lw_g (lw_at lw_m1 231 rfl) rfl
theorem q267 : (Jvm.Cond.classLink "java/util/ArrayList" (267 : Nat) "java/util/ArrayList$Itr") ∈ lw_all := lw_g (lw_at lw_m1 232 rfl) rfl
theorem q269 : (Jvm.Cond.methodLink "java/util/ArrayList" (269 : Nat) ({ cls := "java/util/ArrayList$Itr", name := "<init>", desc := "(Ljava/util/ArrayList;)V" } : Jvm.MethodName)) ∈ lw_all := lw_g (lw_at lw_m1 234 rfl) rfl
theorem q743 : (Jvm.Cond.selects "java/util/ArrayList" ({ cls := "java/util/List", name := "add", desc := "(Ljava/lang/Object;)Z" } : Jvm.MethodName) ({ cls := "java/util/ArrayList", name := "add", desc := "(Ljava/lang/Object;)Z" } : Jvm.MethodName)) ∈ lw_all := lw_g (lw_at lw_m3 228 rfl) rfl
theorem q744 : (Jvm.Cond.unhidden "java/util/ArrayList" "add" "(Ljava/lang/Object;)Z") ∈ lw_tbl := lw_at lw_m3 229 rfl
theorem q745 : (Jvm.Cond.instanceMethod ({ cls := "java/util/ArrayList", name := "add", desc := "(Ljava/lang/Object;)Z" } : Jvm.MethodName)) ∈ lw_all := lw_g (lw_at lw_m3 230 rfl) rfl
theorem q746 : (Jvm.Cond.publicMethod ({ cls := "java/util/ArrayList", name := "add", desc := "(Ljava/lang/Object;)Z" } : Jvm.MethodName)) ∈ lw_tbl := lw_at lw_m3 231 rfl
theorem q747 : (Jvm.Cond.code ({ cls := "java/util/ArrayList", name := "add", desc := "(Ljava/lang/Object;)Z" } : Jvm.MethodName) prog_44_method_25_code (2 : Nat) (Option.some Jvm.ClassFile.FieldType.boolean)) ∈ lw_all := lw_g (lw_at lw_m3 232 rfl) rfl
theorem q748 : (Jvm.Cond.methodLink "java/util/ArrayList" (131 : Nat) ({ cls := "java/util/ArrayList", name := "add", desc := "(Ljava/lang/Object;[Ljava/lang/Object;I)V" } : Jvm.MethodName)) ∈ lw_all := lw_g (lw_at lw_m3 233 rfl) rfl
theorem q749 : (Jvm.Cond.privateMethod ({ cls := "java/util/ArrayList", name := "add", desc := "(Ljava/lang/Object;[Ljava/lang/Object;I)V" } : Jvm.MethodName)) ∈ lw_tbl := lw_at lw_m3 234 rfl
theorem q750 : (Jvm.Cond.instanceMethod ({ cls := "java/util/ArrayList", name := "add", desc := "(Ljava/lang/Object;[Ljava/lang/Object;I)V" } : Jvm.MethodName)) ∈ lw_all := lw_g (lw_at lw_m3 235 rfl) rfl
theorem q751 : (Jvm.Cond.code ({ cls := "java/util/ArrayList", name := "add", desc := "(Ljava/lang/Object;[Ljava/lang/Object;I)V" } : Jvm.MethodName) prog_44_method_24_code (4 : Nat) (Option.none : Option Jvm.ClassFile.FieldType)) ∈ lw_all := lw_g (lw_at lw_m3 236 rfl) rfl
theorem q752 : (Jvm.Cond.methodLink "java/util/ArrayList" (129 : Nat) ({ cls := "java/util/ArrayList", name := "grow", desc := "()[Ljava/lang/Object;" } : Jvm.MethodName)) ∈ lw_all := lw_g (lw_at lw_m3 237 rfl) rfl
theorem q753 : (Jvm.Cond.privateMethod ({ cls := "java/util/ArrayList", name := "grow", desc := "()[Ljava/lang/Object;" } : Jvm.MethodName)) ∈ lw_tbl := lw_at lw_m3 238 rfl
theorem q754 : (Jvm.Cond.instanceMethod ({ cls := "java/util/ArrayList", name := "grow", desc := "()[Ljava/lang/Object;" } : Jvm.MethodName)) ∈ lw_all := lw_g (lw_at lw_m3 239 rfl) rfl
theorem q755 : (Jvm.Cond.code ({ cls := "java/util/ArrayList", name := "grow", desc := "()[Ljava/lang/Object;" } : Jvm.MethodName) prog_44_method_7_code (1 : Nat) (Option.some (Jvm.ClassFile.FieldType.array (Jvm.ClassFile.FieldType.object "java/lang/Object")))) ∈ lw_all := lw_g (lw_at lw_m4 0 rfl) rfl
theorem q756 : (Jvm.Cond.methodLink "java/util/ArrayList" (69 : Nat) ({ cls := "java/util/ArrayList", name := "grow", desc := "(I)[Ljava/lang/Object;" } : Jvm.MethodName)) ∈ lw_all := lw_g (lw_at lw_m4 1 rfl) rfl
theorem q757 : (Jvm.Cond.privateMethod ({ cls := "java/util/ArrayList", name := "grow", desc := "(I)[Ljava/lang/Object;" } : Jvm.MethodName)) ∈ lw_tbl := lw_at lw_m4 2 rfl
theorem q758 : (Jvm.Cond.instanceMethod ({ cls := "java/util/ArrayList", name := "grow", desc := "(I)[Ljava/lang/Object;" } : Jvm.MethodName)) ∈ lw_all := lw_g (lw_at lw_m4 3 rfl) rfl
theorem q759 : (Jvm.Cond.code ({ cls := "java/util/ArrayList", name := "grow", desc := "(I)[Ljava/lang/Object;" } : Jvm.MethodName) prog_44_method_6_code (4 : Nat) (Option.some (Jvm.ClassFile.FieldType.array (Jvm.ClassFile.FieldType.object "java/lang/Object")))) ∈ lw_all := lw_g (lw_at lw_m4 4 rfl) rfl
theorem q760 : (Jvm.Cond.methodLink "java/util/ArrayList" (73 : Nat) ({ cls := "jdk/internal/util/ArraysSupport", name := "newLength", desc := "(III)I" } : Jvm.MethodName)) ∈ lw_all := lw_g (lw_at lw_m4 5 rfl) rfl
theorem q761 : (Jvm.Cond.methodLink "java/util/ArrayList" (66 : Nat) ({ cls := "java/util/Arrays", name := "copyOf", desc := "([Ljava/lang/Object;I)[Ljava/lang/Object;" } : Jvm.MethodName)) ∈ lw_all := lw_g (lw_at lw_m4 6 rfl) rfl
theorem q783 : (Jvm.Cond.selects "java/util/ArrayList" ({ cls := "java/lang/Object", name := "getClass", desc := "()Ljava/lang/Class;" } : Jvm.MethodName) ({ cls := "java/lang/Object", name := "getClass", desc := "()Ljava/lang/Class;" } : Jvm.MethodName)) ∈ lw_all := lw_g (lw_at lw_m4 28 rfl) rfl
theorem q796 : (Jvm.Cond.methodLink "java/util/ArrayList" (79 : Nat) ({ cls := "java/lang/Math", name := "max", desc := "(II)I" } : Jvm.MethodName)) ∈ lw_all := lw_g (lw_at lw_m4 41 rfl) rfl
theorem q797 : (Jvm.Cond.classLink "java/util/ArrayList" (7 : Nat) "java/lang/Object") ∈ lw_all := lw_g (lw_at lw_m4 42 rfl) rfl
theorem q1189 : (Jvm.Cond.selects "java/util/ArrayList" ({ cls := "java/util/List", name := "get", desc := "(I)Ljava/lang/Object;" } : Jvm.MethodName) ({ cls := "java/util/ArrayList", name := "get", desc := "(I)Ljava/lang/Object;" } : Jvm.MethodName)) ∈ lw_all := lw_g (lw_at lw_m5 194 rfl) rfl
theorem q1190 : (Jvm.Cond.unhidden "java/util/ArrayList" "get" "(I)Ljava/lang/Object;") ∈ lw_tbl := lw_at lw_m5 195 rfl
theorem q1191 : (Jvm.Cond.instanceMethod ({ cls := "java/util/ArrayList", name := "get", desc := "(I)Ljava/lang/Object;" } : Jvm.MethodName)) ∈ lw_all := lw_g (lw_at lw_m5 196 rfl) rfl
theorem q1192 : (Jvm.Cond.publicMethod ({ cls := "java/util/ArrayList", name := "get", desc := "(I)Ljava/lang/Object;" } : Jvm.MethodName)) ∈ lw_tbl := lw_at lw_m5 197 rfl
theorem q1193 : (Jvm.Cond.code ({ cls := "java/util/ArrayList", name := "get", desc := "(I)Ljava/lang/Object;" } : Jvm.MethodName) prog_44_method_20_code (2 : Nat) (Option.some (Jvm.ClassFile.FieldType.object "java/lang/Object"))) ∈ lw_all := lw_g (lw_at lw_m5 198 rfl) rfl
theorem q1194 : (Jvm.Cond.methodLink "java/util/ArrayList" (123 : Nat) ({ cls := "java/util/ArrayList", name := "elementData", desc := "(I)Ljava/lang/Object;" } : Jvm.MethodName)) ∈ lw_all := lw_g (lw_at lw_m5 199 rfl) rfl
theorem q1195 : (Jvm.Cond.instanceMethod ({ cls := "java/util/ArrayList", name := "elementData", desc := "(I)Ljava/lang/Object;" } : Jvm.MethodName)) ∈ lw_all := lw_g (lw_at lw_m5 200 rfl) rfl
theorem q1196 : (Jvm.Cond.selects "java/util/ArrayList" ({ cls := "java/util/ArrayList", name := "elementData", desc := "(I)Ljava/lang/Object;" } : Jvm.MethodName) ({ cls := "java/util/ArrayList", name := "elementData", desc := "(I)Ljava/lang/Object;" } : Jvm.MethodName)) ∈ lw_all := lw_g (lw_at lw_m5 201 rfl) rfl
theorem q1197 : (Jvm.Cond.code ({ cls := "java/util/ArrayList", name := "elementData", desc := "(I)Ljava/lang/Object;" } : Jvm.MethodName) prog_44_method_18_code (2 : Nat) (Option.some (Jvm.ClassFile.FieldType.object "java/lang/Object"))) ∈ lw_all := lw_g (lw_at lw_m5 202 rfl) rfl
theorem q1416 : (Jvm.Cond.selects "java/util/ArrayList" ({ cls := "java/util/AbstractCollection", name := "size", desc := "()I" } : Jvm.MethodName) ({ cls := "java/util/ArrayList", name := "size", desc := "()I" } : Jvm.MethodName)) ∈ lw_all := lw_g (lw_at lw_m6 181 rfl) rfl
theorem q1490 : (Jvm.Cond.selects "java/util/ArrayList" ({ cls := "java/util/List", name := "add", desc := "(ILjava/lang/Object;)V" } : Jvm.MethodName) ({ cls := "java/util/ArrayList", name := "add", desc := "(ILjava/lang/Object;)V" } : Jvm.MethodName)) ∈ lw_all := lw_g (lw_at lw_m7 15 rfl) rfl
theorem q1491 : (Jvm.Cond.unhidden "java/util/ArrayList" "add" "(ILjava/lang/Object;)V") ∈ lw_tbl := lw_at lw_m7 16 rfl
theorem q1492 : (Jvm.Cond.instanceMethod ({ cls := "java/util/ArrayList", name := "add", desc := "(ILjava/lang/Object;)V" } : Jvm.MethodName)) ∈ lw_all := lw_g (lw_at lw_m7 17 rfl) rfl
theorem q1493 : (Jvm.Cond.publicMethod ({ cls := "java/util/ArrayList", name := "add", desc := "(ILjava/lang/Object;)V" } : Jvm.MethodName)) ∈ lw_tbl := lw_at lw_m7 18 rfl
theorem q1494 : (Jvm.Cond.code ({ cls := "java/util/ArrayList", name := "add", desc := "(ILjava/lang/Object;)V" } : Jvm.MethodName) prog_44_method_26_code (5 : Nat) (Option.none : Option Jvm.ClassFile.FieldType)) ∈ lw_all := lw_g (lw_at lw_m7 19 rfl) rfl
theorem q1495 : (Jvm.Cond.methodLink "java/util/ArrayList" (135 : Nat) ({ cls := "java/util/ArrayList", name := "rangeCheckForAdd", desc := "(I)V" } : Jvm.MethodName)) ∈ lw_all := lw_g (lw_at lw_m7 20 rfl) rfl
theorem q1496 : (Jvm.Cond.privateMethod ({ cls := "java/util/ArrayList", name := "rangeCheckForAdd", desc := "(I)V" } : Jvm.MethodName)) ∈ lw_tbl := lw_at lw_m7 21 rfl
theorem q1497 : (Jvm.Cond.instanceMethod ({ cls := "java/util/ArrayList", name := "rangeCheckForAdd", desc := "(I)V" } : Jvm.MethodName)) ∈ lw_all := lw_g (lw_at lw_m7 22 rfl) rfl
theorem q1498 : (Jvm.Cond.code ({ cls := "java/util/ArrayList", name := "rangeCheckForAdd", desc := "(I)V" } : Jvm.MethodName) prog_44_method_45_code (2 : Nat) (Option.none : Option Jvm.ClassFile.FieldType)) ∈ lw_all := lw_g (lw_at lw_m7 23 rfl) rfl
theorem q1499 : (Jvm.Cond.classLink "java/util/ArrayList" (187 : Nat) "java/lang/IndexOutOfBoundsException") ∈ lw_all := lw_g (lw_at lw_m7 24 rfl) rfl
theorem q1500 : (Jvm.Cond.methodLink "java/util/ArrayList" (198 : Nat) ({ cls := "java/util/ArrayList", name := "outOfBoundsMsg", desc := "(I)Ljava/lang/String;" } : Jvm.MethodName)) ∈ lw_all := lw_g (lw_at lw_m7 25 rfl) rfl
theorem q1501 : (Jvm.Cond.privateMethod ({ cls := "java/util/ArrayList", name := "outOfBoundsMsg", desc := "(I)Ljava/lang/String;" } : Jvm.MethodName)) ∈ lw_tbl := lw_at lw_m7 26 rfl
theorem q1502 : (Jvm.Cond.instanceMethod ({ cls := "java/util/ArrayList", name := "outOfBoundsMsg", desc := "(I)Ljava/lang/String;" } : Jvm.MethodName)) ∈ lw_all := lw_g (lw_at lw_m7 27 rfl) rfl
theorem q1503 : (Jvm.Cond.code ({ cls := "java/util/ArrayList", name := "outOfBoundsMsg", desc := "(I)Ljava/lang/String;" } : Jvm.MethodName) prog_44_method_46_code (2 : Nat) (Option.some (Jvm.ClassFile.FieldType.object "java/lang/String"))) ∈ lw_all := lw_g (lw_at lw_m7 28 rfl) rfl
theorem q1504 : (Jvm.Cond.classLink "java/util/ArrayList" (20 : Nat) "java/lang/StringBuilder") ∈ lw_all := lw_g (lw_at lw_m7 29 rfl) rfl
theorem q1505 : (Jvm.Cond.methodLink "java/util/ArrayList" (22 : Nat) ({ cls := "java/lang/StringBuilder", name := "<init>", desc := "()V" } : Jvm.MethodName)) ∈ lw_all := lw_g (lw_at lw_m7 30 rfl) rfl
theorem q1506 : (Jvm.Cond.stringRef "java/util/ArrayList" (201 : Nat) "Index: ") ∈ lw_tbl := lw_at lw_m7 31 rfl
theorem q1507 : (Jvm.Cond.methodLink "java/util/ArrayList" (25 : Nat) ({ cls := "java/lang/StringBuilder", name := "append", desc := "(Ljava/lang/String;)Ljava/lang/StringBuilder;" } : Jvm.MethodName)) ∈ lw_all := lw_g (lw_at lw_m7 32 rfl) rfl
theorem q1508 : (Jvm.Cond.methodLink "java/util/ArrayList" (29 : Nat) ({ cls := "java/lang/StringBuilder", name := "append", desc := "(I)Ljava/lang/StringBuilder;" } : Jvm.MethodName)) ∈ lw_all := lw_g (lw_at lw_m7 33 rfl) rfl
theorem q1509 : (Jvm.Cond.stringRef "java/util/ArrayList" (203 : Nat) ", Size: ") ∈ lw_tbl := lw_at lw_m7 34 rfl
theorem q1510 : (Jvm.Cond.methodLink "java/util/ArrayList" (32 : Nat) ({ cls := "java/lang/StringBuilder", name := "toString", desc := "()Ljava/lang/String;" } : Jvm.MethodName)) ∈ lw_all := lw_g (lw_at lw_m7 35 rfl) rfl
theorem q1511 : (Jvm.Cond.methodLink "java/util/ArrayList" (193 : Nat) ({ cls := "java/lang/IndexOutOfBoundsException", name := "<init>", desc := "(Ljava/lang/String;)V" } : Jvm.MethodName)) ∈ lw_all := lw_g (lw_at lw_m7 36 rfl) rfl
theorem q1788 : (Jvm.Cond.castable "java/util/ArrayList" "java/lang/Object") ∈ lw_tbl := lw_at lw_m8 73 rfl
theorem in_J4 : ∀ w ∈ wsJ40, w ∈ lw_all := lw_in wsJ40 [173, 169, 171] (by decide +kernel) (by decide +kernel)

/-! java/lang/String -/
set_option maxRecDepth 100000
def RJ9 : String := "java/lang/String"
def TJ9 : u_T := fun k => match k with
  | 0 => ("java/lang/String", "value", "[B", true)
  | 1 => ("java/lang/String", "coder", "B", true)
  | 2 => ("java/lang/String", "hash", "I", false)
  | _ => ("java/lang/String", "hashIsZero", "Z", false)
def tyJ9 : Nat → FieldType := fun k => match k with
  | 0 => .array .byte
  | 1 => .byte
  | 2 => .int
  | _ => .boolean
abbrev wsJ90 : List Cond := u_ws RJ9 TJ9 4
theorem nmJ9 : ∀ a, a < 4 → ∀ b, b < 4 → a ≠ b → (TJ9 a).2.1 ≠ (TJ9 b).2.1 := by decide +kernel
theorem tyJ9_ok : ∀ k, k < 4 → parseFieldDescriptor (TJ9 k).2.2.1 = some (tyJ9 k) := by decide +kernel
abbrev cJ9_length : ByteArray := prog_32_method_54_code
def yJ9_length : MethodName := ⟨RJ9, "length", "()I"⟩
def dkwJ9_length_0 : List UInt8 := [42, 180, 0, 9, 190, 42, 182, 1, 79, 122, 172]
abbrev dktJ9_length_0 : List UInt8 := dkwJ9_length_0 ++ []
theorem dksJ9_length_0 : cJ9_length.data.toList.drop 0 = dktJ9_length_0 := by decide +kernel
theorem dJ9_length_0 : decode cJ9_length 0 = .ok (.aload_n 0, 1) := dk_42 (dk_at dksJ9_length_0 0 rfl rfl)
theorem dJ9_length_1 : decode cJ9_length 1 = .ok (.getfield 9, 3) := dk_180 0 9 (dk_at dksJ9_length_0 1 rfl rfl)
theorem dJ9_length_4 : decode cJ9_length 4 = .ok (.arraylength, 1) := dk_190 (dk_at dksJ9_length_0 4 rfl rfl)
theorem dJ9_length_5 : decode cJ9_length 5 = .ok (.aload_n 0, 1) := dk_42 (dk_at dksJ9_length_0 5 rfl rfl)
theorem dJ9_length_6 : decode cJ9_length 6 = .ok (.invokevirtual 335, 3) := dk_182 1 79 (dk_at dksJ9_length_0 6 rfl rfl)
theorem dJ9_length_9 : decode cJ9_length 9 = .ok (.ishr, 1) := dk_122 (dk_at dksJ9_length_0 9 rfl rfl)
theorem dJ9_length_10 : decode cJ9_length 10 = .ok (.ireturn, 1) := dk_172 (dk_at dksJ9_length_0 10 rfl rfl)
abbrev cJ9_coder : ByteArray := prog_32_method_152_code
def yJ9_coder : MethodName := ⟨RJ9, "coder", "()B"⟩
def dkwJ9_coder_0 : List UInt8 := [178, 0, 38, 153, 0, 10, 42, 180, 0, 15, 167, 0, 4, 4, 172]
abbrev dktJ9_coder_0 : List UInt8 := dkwJ9_coder_0 ++ []
theorem dksJ9_coder_0 : cJ9_coder.data.toList.drop 0 = dktJ9_coder_0 := by decide +kernel
theorem dJ9_coder_0 : decode cJ9_coder 0 = .ok (.getstatic 38, 3) := dk_178 0 38 (dk_at dksJ9_coder_0 0 rfl rfl)
theorem dJ9_coder_3 : decode cJ9_coder 3 = .ok (.ifCond .eq 10, 3) := dk_153 0 10 (dk_at dksJ9_coder_0 3 rfl rfl)
theorem dJ9_coder_6 : decode cJ9_coder 6 = .ok (.aload_n 0, 1) := dk_42 (dk_at dksJ9_coder_0 6 rfl rfl)
theorem dJ9_coder_7 : decode cJ9_coder 7 = .ok (.getfield 15, 3) := dk_180 0 15 (dk_at dksJ9_coder_0 7 rfl rfl)
theorem dJ9_coder_10 : decode cJ9_coder 10 = .ok (.goto 4, 3) := dk_167 0 4 (dk_at dksJ9_coder_0 10 rfl rfl)
theorem dJ9_coder_13 : decode cJ9_coder 13 = .ok (.iconst 1, 1) := dk_4 (dk_at dksJ9_coder_0 13 rfl rfl)
theorem dJ9_coder_14 : decode cJ9_coder 14 = .ok (.ireturn, 1) := dk_172 (dk_at dksJ9_coder_0 14 rfl rfl)
abbrev cJ9_getBytes : ByteArray := prog_32_method_147_code
def yJ9_getBytes : MethodName := ⟨RJ9, "getBytes", "([BIB)V"⟩
def dkwJ9_getBytes_1 : List UInt8 := [184, 0, 212, 167, 0, 18, 42, 180, 0, 9, 3, 43, 28, 42, 180, 0, 9, 190, 184, 0, 106, 177]
abbrev dktJ9_getBytes_1 : List UInt8 := dkwJ9_getBytes_1 ++ []
def dkwJ9_getBytes_0 : List UInt8 := [42, 182, 1, 79, 29, 160, 0, 23, 42, 180, 0, 9, 3, 43, 28, 29, 120, 42, 180, 0, 9, 190]
abbrev dktJ9_getBytes_0 : List UInt8 := dkwJ9_getBytes_0 ++ dktJ9_getBytes_1
theorem dksJ9_getBytes_0 : cJ9_getBytes.data.toList.drop 0 = dktJ9_getBytes_0 := by decide +kernel
theorem dksJ9_getBytes_1 : cJ9_getBytes.data.toList.drop 22 = dktJ9_getBytes_1 := dk_seg dksJ9_getBytes_0 22 rfl rfl
theorem dJ9_getBytes_0 : decode cJ9_getBytes 0 = .ok (.aload_n 0, 1) := dk_42 (dk_at dksJ9_getBytes_0 0 rfl rfl)
theorem dJ9_getBytes_1 : decode cJ9_getBytes 1 = .ok (.invokevirtual 335, 3) := dk_182 1 79 (dk_at dksJ9_getBytes_0 1 rfl rfl)
theorem dJ9_getBytes_4 : decode cJ9_getBytes 4 = .ok (.iload_n 3, 1) := dk_29 (dk_at dksJ9_getBytes_0 4 rfl rfl)
theorem dJ9_getBytes_5 : decode cJ9_getBytes 5 = .ok (.if_icmp .ne 23, 3) := dk_160 0 23 (dk_at dksJ9_getBytes_0 5 rfl rfl)
theorem dJ9_getBytes_8 : decode cJ9_getBytes 8 = .ok (.aload_n 0, 1) := dk_42 (dk_at dksJ9_getBytes_0 8 rfl rfl)
theorem dJ9_getBytes_9 : decode cJ9_getBytes 9 = .ok (.getfield 9, 3) := dk_180 0 9 (dk_at dksJ9_getBytes_0 9 rfl rfl)
theorem dJ9_getBytes_12 : decode cJ9_getBytes 12 = .ok (.iconst 0, 1) := dk_3 (dk_at dksJ9_getBytes_0 12 rfl rfl)
theorem dJ9_getBytes_13 : decode cJ9_getBytes 13 = .ok (.aload_n 1, 1) := dk_43 (dk_at dksJ9_getBytes_0 13 rfl rfl)
theorem dJ9_getBytes_14 : decode cJ9_getBytes 14 = .ok (.iload_n 2, 1) := dk_28 (dk_at dksJ9_getBytes_0 14 rfl rfl)
theorem dJ9_getBytes_15 : decode cJ9_getBytes 15 = .ok (.iload_n 3, 1) := dk_29 (dk_at dksJ9_getBytes_0 15 rfl rfl)
theorem dJ9_getBytes_16 : decode cJ9_getBytes 16 = .ok (.ishl, 1) := dk_120 (dk_at dksJ9_getBytes_0 16 rfl rfl)
theorem dJ9_getBytes_17 : decode cJ9_getBytes 17 = .ok (.aload_n 0, 1) := dk_42 (dk_at dksJ9_getBytes_0 17 rfl rfl)
theorem dJ9_getBytes_18 : decode cJ9_getBytes 18 = .ok (.getfield 9, 3) := dk_180 0 9 (dk_at dksJ9_getBytes_0 18 rfl rfl)
theorem dJ9_getBytes_21 : decode cJ9_getBytes 21 = .ok (.arraylength, 1) := dk_190 (dk_at dksJ9_getBytes_0 21 rfl rfl)
theorem dJ9_getBytes_22 : decode cJ9_getBytes 22 = .ok (.invokestatic 212, 3) := dk_184 0 212 (dk_at dksJ9_getBytes_1 0 rfl rfl)
theorem dJ9_getBytes_25 : decode cJ9_getBytes 25 = .ok (.goto 18, 3) := dk_167 0 18 (dk_at dksJ9_getBytes_1 3 rfl rfl)
theorem dJ9_getBytes_28 : decode cJ9_getBytes 28 = .ok (.aload_n 0, 1) := dk_42 (dk_at dksJ9_getBytes_1 6 rfl rfl)
theorem dJ9_getBytes_29 : decode cJ9_getBytes 29 = .ok (.getfield 9, 3) := dk_180 0 9 (dk_at dksJ9_getBytes_1 7 rfl rfl)
theorem dJ9_getBytes_32 : decode cJ9_getBytes 32 = .ok (.iconst 0, 1) := dk_3 (dk_at dksJ9_getBytes_1 10 rfl rfl)
theorem dJ9_getBytes_33 : decode cJ9_getBytes 33 = .ok (.aload_n 1, 1) := dk_43 (dk_at dksJ9_getBytes_1 11 rfl rfl)
theorem dJ9_getBytes_34 : decode cJ9_getBytes 34 = .ok (.iload_n 2, 1) := dk_28 (dk_at dksJ9_getBytes_1 12 rfl rfl)
theorem dJ9_getBytes_35 : decode cJ9_getBytes 35 = .ok (.aload_n 0, 1) := dk_42 (dk_at dksJ9_getBytes_1 13 rfl rfl)
theorem dJ9_getBytes_36 : decode cJ9_getBytes 36 = .ok (.getfield 9, 3) := dk_180 0 9 (dk_at dksJ9_getBytes_1 14 rfl rfl)
theorem dJ9_getBytes_39 : decode cJ9_getBytes 39 = .ok (.arraylength, 1) := dk_190 (dk_at dksJ9_getBytes_1 17 rfl rfl)
theorem dJ9_getBytes_40 : decode cJ9_getBytes 40 = .ok (.invokestatic 106, 3) := dk_184 0 106 (dk_at dksJ9_getBytes_1 18 rfl rfl)
theorem dJ9_getBytes_43 : decode cJ9_getBytes 43 = .ok (.return_, 1) := dk_177 (dk_at dksJ9_getBytes_1 21 rfl rfl)
abbrev cJ9_checkIndex : ByteArray := prog_32_method_155_code
def yJ9_checkIndex : MethodName := ⟨RJ9, "checkIndex", "(II)V"⟩
def dkwJ9_checkIndex_0 : List UInt8 := [26, 27, 178, 4, 29, 184, 4, 35, 87, 177]
abbrev dktJ9_checkIndex_0 : List UInt8 := dkwJ9_checkIndex_0 ++ []
theorem dksJ9_checkIndex_0 : cJ9_checkIndex.data.toList.drop 0 = dktJ9_checkIndex_0 := by decide +kernel
theorem dJ9_checkIndex_0 : decode cJ9_checkIndex 0 = .ok (.iload_n 0, 1) := dk_26 (dk_at dksJ9_checkIndex_0 0 rfl rfl)
theorem dJ9_checkIndex_1 : decode cJ9_checkIndex 1 = .ok (.iload_n 1, 1) := dk_27 (dk_at dksJ9_checkIndex_0 1 rfl rfl)
theorem dJ9_checkIndex_2 : decode cJ9_checkIndex 2 = .ok (.getstatic 1053, 3) := dk_178 4 29 (dk_at dksJ9_checkIndex_0 2 rfl rfl)
theorem dJ9_checkIndex_5 : decode cJ9_checkIndex 5 = .ok (.invokestatic 1059, 3) := dk_184 4 35 (dk_at dksJ9_checkIndex_0 5 rfl rfl)
theorem dJ9_checkIndex_8 : decode cJ9_checkIndex 8 = .ok (.pop, 1) := dk_87 (dk_at dksJ9_checkIndex_0 8 rfl rfl)
theorem dJ9_checkIndex_9 : decode cJ9_checkIndex 9 = .ok (.return_, 1) := dk_177 (dk_at dksJ9_checkIndex_0 9 rfl rfl)
abbrev cJ9_init : ByteArray := prog_32_method_53_code
def yJ9_init : MethodName := ⟨RJ9, "<init>", "(Ljava/lang/StringBuilder;)V"⟩
def dkwJ9_init_0 : List UInt8 := [42, 43, 1, 183, 1, 233, 177]
abbrev dktJ9_init_0 : List UInt8 := dkwJ9_init_0 ++ []
theorem dksJ9_init_0 : cJ9_init.data.toList.drop 0 = dktJ9_init_0 := by decide +kernel
theorem dJ9_init_0 : decode cJ9_init 0 = .ok (.aload_n 0, 1) := dk_42 (dk_at dksJ9_init_0 0 rfl rfl)
theorem dJ9_init_1 : decode cJ9_init 1 = .ok (.aload_n 1, 1) := dk_43 (dk_at dksJ9_init_0 1 rfl rfl)
theorem dJ9_init_2 : decode cJ9_init 2 = .ok (.aconst_null, 1) := dk_1 (dk_at dksJ9_init_0 2 rfl rfl)
theorem dJ9_init_3 : decode cJ9_init 3 = .ok (.invokespecial 489, 3) := dk_183 1 233 (dk_at dksJ9_init_0 3 rfl rfl)
theorem dJ9_init_6 : decode cJ9_init 6 = .ok (.return_, 1) := dk_177 (dk_at dksJ9_init_0 6 rfl rfl)
abbrev cJ9_init_2 : ByteArray := prog_32_method_150_code
def yJ9_init_2 : MethodName := ⟨RJ9, "<init>", "(Ljava/lang/AbstractStringBuilder;Ljava/lang/Void;)V"⟩
def dkwJ9_init_2_4 : List UInt8 := [181, 0, 9, 177]
abbrev dktJ9_init_2_4 : List UInt8 := dkwJ9_init_2_4 ++ []
def dkwJ9_init_2_3 : List UInt8 := [184, 0, 47, 181, 0, 15, 177, 42, 4, 181, 0, 15, 42, 45, 3, 21, 4, 4, 120, 184, 0, 54]
abbrev dktJ9_init_2_3 : List UInt8 := dkwJ9_init_2_3 ++ dktJ9_init_2_4
def dkwJ9_init_2_2 : List UInt8 := [180, 4, 24, 153, 0, 28, 42, 45, 3, 21, 4, 184, 4, 27, 181, 0, 9, 42, 42, 180, 0, 9, 21, 4]
abbrev dktJ9_init_2_2 : List UInt8 := dkwJ9_init_2_2 ++ dktJ9_init_2_3
def dkwJ9_init_2_1 : List UInt8 := [181, 0, 15, 42, 45, 3, 21, 4, 184, 0, 54, 181, 0, 9, 167, 0, 59, 178, 0, 38, 153, 0, 35, 43]
abbrev dktJ9_init_2_1 : List UInt8 := dkwJ9_init_2_1 ++ dktJ9_init_2_2
def dkwJ9_init_2_0 : List UInt8 := [42, 183, 0, 1, 43, 182, 2, 40, 78, 43, 182, 2, 37, 54, 4, 43, 182, 4, 23, 153, 0, 22, 42, 3]
abbrev dktJ9_init_2_0 : List UInt8 := dkwJ9_init_2_0 ++ dktJ9_init_2_1
theorem dksJ9_init_2_0 : cJ9_init_2.data.toList.drop 0 = dktJ9_init_2_0 := by decide +kernel
theorem dksJ9_init_2_1 : cJ9_init_2.data.toList.drop 24 = dktJ9_init_2_1 := dk_seg dksJ9_init_2_0 24 rfl rfl
theorem dksJ9_init_2_2 : cJ9_init_2.data.toList.drop 48 = dktJ9_init_2_2 := dk_seg dksJ9_init_2_1 24 rfl rfl
theorem dksJ9_init_2_3 : cJ9_init_2.data.toList.drop 72 = dktJ9_init_2_3 := dk_seg dksJ9_init_2_2 24 rfl rfl
theorem dksJ9_init_2_4 : cJ9_init_2.data.toList.drop 94 = dktJ9_init_2_4 := dk_seg dksJ9_init_2_3 22 rfl rfl
theorem dJ9_init_2_0 : decode cJ9_init_2 0 = .ok (.aload_n 0, 1) := dk_42 (dk_at dksJ9_init_2_0 0 rfl rfl)
theorem dJ9_init_2_1 : decode cJ9_init_2 1 = .ok (.invokespecial 1, 3) := dk_183 0 1 (dk_at dksJ9_init_2_0 1 rfl rfl)
theorem dJ9_init_2_4 : decode cJ9_init_2 4 = .ok (.aload_n 1, 1) := dk_43 (dk_at dksJ9_init_2_0 4 rfl rfl)
theorem dJ9_init_2_5 : decode cJ9_init_2 5 = .ok (.invokevirtual 552, 3) := dk_182 2 40 (dk_at dksJ9_init_2_0 5 rfl rfl)
theorem dJ9_init_2_8 : decode cJ9_init_2 8 = .ok (.astore_n 3, 1) := dk_78 (dk_at dksJ9_init_2_0 8 rfl rfl)
theorem dJ9_init_2_9 : decode cJ9_init_2 9 = .ok (.aload_n 1, 1) := dk_43 (dk_at dksJ9_init_2_0 9 rfl rfl)
theorem dJ9_init_2_10 : decode cJ9_init_2 10 = .ok (.invokevirtual 549, 3) := dk_182 2 37 (dk_at dksJ9_init_2_0 10 rfl rfl)
theorem dJ9_init_2_13 : decode cJ9_init_2 13 = .ok (.istore 4, 2) := dk_54 4 (dk_at dksJ9_init_2_0 13 rfl rfl)
theorem dJ9_init_2_15 : decode cJ9_init_2 15 = .ok (.aload_n 1, 1) := dk_43 (dk_at dksJ9_init_2_0 15 rfl rfl)
theorem dJ9_init_2_16 : decode cJ9_init_2 16 = .ok (.invokevirtual 1047, 3) := dk_182 4 23 (dk_at dksJ9_init_2_0 16 rfl rfl)
theorem dJ9_init_2_19 : decode cJ9_init_2 19 = .ok (.ifCond .eq 22, 3) := dk_153 0 22 (dk_at dksJ9_init_2_0 19 rfl rfl)
theorem dJ9_init_2_22 : decode cJ9_init_2 22 = .ok (.aload_n 0, 1) := dk_42 (dk_at dksJ9_init_2_0 22 rfl rfl)
theorem dJ9_init_2_23 : decode cJ9_init_2 23 = .ok (.iconst 0, 1) := dk_3 (dk_at dksJ9_init_2_0 23 rfl rfl)
theorem dJ9_init_2_24 : decode cJ9_init_2 24 = .ok (.putfield 15, 3) := dk_181 0 15 (dk_at dksJ9_init_2_1 0 rfl rfl)
theorem dJ9_init_2_27 : decode cJ9_init_2 27 = .ok (.aload_n 0, 1) := dk_42 (dk_at dksJ9_init_2_1 3 rfl rfl)
theorem dJ9_init_2_28 : decode cJ9_init_2 28 = .ok (.aload_n 3, 1) := dk_45 (dk_at dksJ9_init_2_1 4 rfl rfl)
theorem dJ9_init_2_29 : decode cJ9_init_2 29 = .ok (.iconst 0, 1) := dk_3 (dk_at dksJ9_init_2_1 5 rfl rfl)
theorem dJ9_init_2_30 : decode cJ9_init_2 30 = .ok (.iload 4, 2) := dk_21 4 (dk_at dksJ9_init_2_1 6 rfl rfl)
theorem dJ9_init_2_32 : decode cJ9_init_2 32 = .ok (.invokestatic 54, 3) := dk_184 0 54 (dk_at dksJ9_init_2_1 8 rfl rfl)
theorem dJ9_init_2_35 : decode cJ9_init_2 35 = .ok (.putfield 9, 3) := dk_181 0 9 (dk_at dksJ9_init_2_1 11 rfl rfl)
theorem dJ9_init_2_38 : decode cJ9_init_2 38 = .ok (.goto 59, 3) := dk_167 0 59 (dk_at dksJ9_init_2_1 14 rfl rfl)
theorem dJ9_init_2_41 : decode cJ9_init_2 41 = .ok (.getstatic 38, 3) := dk_178 0 38 (dk_at dksJ9_init_2_1 17 rfl rfl)
theorem dJ9_init_2_44 : decode cJ9_init_2 44 = .ok (.ifCond .eq 35, 3) := dk_153 0 35 (dk_at dksJ9_init_2_1 20 rfl rfl)
theorem dJ9_init_2_47 : decode cJ9_init_2 47 = .ok (.aload_n 1, 1) := dk_43 (dk_at dksJ9_init_2_1 23 rfl rfl)
theorem dJ9_init_2_48 : decode cJ9_init_2 48 = .ok (.getfield 1048, 3) := dk_180 4 24 (dk_at dksJ9_init_2_2 0 rfl rfl)
theorem dJ9_init_2_51 : decode cJ9_init_2 51 = .ok (.ifCond .eq 28, 3) := dk_153 0 28 (dk_at dksJ9_init_2_2 3 rfl rfl)
theorem dJ9_init_2_54 : decode cJ9_init_2 54 = .ok (.aload_n 0, 1) := dk_42 (dk_at dksJ9_init_2_2 6 rfl rfl)
theorem dJ9_init_2_55 : decode cJ9_init_2 55 = .ok (.aload_n 3, 1) := dk_45 (dk_at dksJ9_init_2_2 7 rfl rfl)
theorem dJ9_init_2_56 : decode cJ9_init_2 56 = .ok (.iconst 0, 1) := dk_3 (dk_at dksJ9_init_2_2 8 rfl rfl)
theorem dJ9_init_2_57 : decode cJ9_init_2 57 = .ok (.iload 4, 2) := dk_21 4 (dk_at dksJ9_init_2_2 9 rfl rfl)
theorem dJ9_init_2_59 : decode cJ9_init_2 59 = .ok (.invokestatic 1051, 3) := dk_184 4 27 (dk_at dksJ9_init_2_2 11 rfl rfl)
theorem dJ9_init_2_62 : decode cJ9_init_2 62 = .ok (.putfield 9, 3) := dk_181 0 9 (dk_at dksJ9_init_2_2 14 rfl rfl)
theorem dJ9_init_2_65 : decode cJ9_init_2 65 = .ok (.aload_n 0, 1) := dk_42 (dk_at dksJ9_init_2_2 17 rfl rfl)
theorem dJ9_init_2_66 : decode cJ9_init_2 66 = .ok (.aload_n 0, 1) := dk_42 (dk_at dksJ9_init_2_2 18 rfl rfl)
theorem dJ9_init_2_67 : decode cJ9_init_2 67 = .ok (.getfield 9, 3) := dk_180 0 9 (dk_at dksJ9_init_2_2 19 rfl rfl)
theorem dJ9_init_2_70 : decode cJ9_init_2 70 = .ok (.iload 4, 2) := dk_21 4 (dk_at dksJ9_init_2_2 22 rfl rfl)
theorem dJ9_init_2_72 : decode cJ9_init_2 72 = .ok (.invokestatic 47, 3) := dk_184 0 47 (dk_at dksJ9_init_2_3 0 rfl rfl)
theorem dJ9_init_2_75 : decode cJ9_init_2 75 = .ok (.putfield 15, 3) := dk_181 0 15 (dk_at dksJ9_init_2_3 3 rfl rfl)
theorem dJ9_init_2_78 : decode cJ9_init_2 78 = .ok (.return_, 1) := dk_177 (dk_at dksJ9_init_2_3 6 rfl rfl)
theorem dJ9_init_2_79 : decode cJ9_init_2 79 = .ok (.aload_n 0, 1) := dk_42 (dk_at dksJ9_init_2_3 7 rfl rfl)
theorem dJ9_init_2_80 : decode cJ9_init_2 80 = .ok (.iconst 1, 1) := dk_4 (dk_at dksJ9_init_2_3 8 rfl rfl)
theorem dJ9_init_2_81 : decode cJ9_init_2 81 = .ok (.putfield 15, 3) := dk_181 0 15 (dk_at dksJ9_init_2_3 9 rfl rfl)
theorem dJ9_init_2_84 : decode cJ9_init_2 84 = .ok (.aload_n 0, 1) := dk_42 (dk_at dksJ9_init_2_3 12 rfl rfl)
theorem dJ9_init_2_85 : decode cJ9_init_2 85 = .ok (.aload_n 3, 1) := dk_45 (dk_at dksJ9_init_2_3 13 rfl rfl)
theorem dJ9_init_2_86 : decode cJ9_init_2 86 = .ok (.iconst 0, 1) := dk_3 (dk_at dksJ9_init_2_3 14 rfl rfl)
theorem dJ9_init_2_87 : decode cJ9_init_2 87 = .ok (.iload 4, 2) := dk_21 4 (dk_at dksJ9_init_2_3 15 rfl rfl)
theorem dJ9_init_2_89 : decode cJ9_init_2 89 = .ok (.iconst 1, 1) := dk_4 (dk_at dksJ9_init_2_3 17 rfl rfl)
theorem dJ9_init_2_90 : decode cJ9_init_2 90 = .ok (.ishl, 1) := dk_120 (dk_at dksJ9_init_2_3 18 rfl rfl)
theorem dJ9_init_2_91 : decode cJ9_init_2 91 = .ok (.invokestatic 54, 3) := dk_184 0 54 (dk_at dksJ9_init_2_3 19 rfl rfl)
theorem dJ9_init_2_94 : decode cJ9_init_2 94 = .ok (.putfield 9, 3) := dk_181 0 9 (dk_at dksJ9_init_2_4 0 rfl rfl)
theorem dJ9_init_2_97 : decode cJ9_init_2 97 = .ok (.return_, 1) := dk_177 (dk_at dksJ9_init_2_4 3 rfl rfl)
abbrev cJ9_compareTo : ByteArray := prog_32_method_71_code
def yJ9_compareTo : MethodName := ⟨RJ9, "compareTo", "(Ljava/lang/String;)I"⟩
def dkwJ9_compareTo_2 : List UInt8 := [154, 0, 11, 44, 45, 184, 2, 79, 167, 0, 8, 44, 45, 184, 2, 82, 172]
abbrev dktJ9_compareTo_2 : List UInt8 := dkwJ9_compareTo_2 ++ []
def dkwJ9_compareTo_1 : List UInt8 := [160, 0, 22, 21, 4, 154, 0, 11, 44, 45, 184, 2, 74, 167, 0, 8, 44, 45, 184, 2, 78, 172, 21, 4]
abbrev dktJ9_compareTo_1 : List UInt8 := dkwJ9_compareTo_1 ++ dktJ9_compareTo_2
def dkwJ9_compareTo_0 : List UInt8 := [42, 180, 0, 9, 77, 43, 180, 0, 9, 78, 42, 182, 1, 79, 54, 4, 21, 4, 43, 182, 1, 79]
abbrev dktJ9_compareTo_0 : List UInt8 := dkwJ9_compareTo_0 ++ dktJ9_compareTo_1
theorem dksJ9_compareTo_0 : cJ9_compareTo.data.toList.drop 0 = dktJ9_compareTo_0 := by decide +kernel
theorem dksJ9_compareTo_1 : cJ9_compareTo.data.toList.drop 22 = dktJ9_compareTo_1 := dk_seg dksJ9_compareTo_0 22 rfl rfl
theorem dksJ9_compareTo_2 : cJ9_compareTo.data.toList.drop 46 = dktJ9_compareTo_2 := dk_seg dksJ9_compareTo_1 24 rfl rfl
theorem dJ9_compareTo_0 : decode cJ9_compareTo 0 = .ok (.aload_n 0, 1) := dk_42 (dk_at dksJ9_compareTo_0 0 rfl rfl)
theorem dJ9_compareTo_1 : decode cJ9_compareTo 1 = .ok (.getfield 9, 3) := dk_180 0 9 (dk_at dksJ9_compareTo_0 1 rfl rfl)
theorem dJ9_compareTo_4 : decode cJ9_compareTo 4 = .ok (.astore_n 2, 1) := dk_77 (dk_at dksJ9_compareTo_0 4 rfl rfl)
theorem dJ9_compareTo_5 : decode cJ9_compareTo 5 = .ok (.aload_n 1, 1) := dk_43 (dk_at dksJ9_compareTo_0 5 rfl rfl)
theorem dJ9_compareTo_6 : decode cJ9_compareTo 6 = .ok (.getfield 9, 3) := dk_180 0 9 (dk_at dksJ9_compareTo_0 6 rfl rfl)
theorem dJ9_compareTo_9 : decode cJ9_compareTo 9 = .ok (.astore_n 3, 1) := dk_78 (dk_at dksJ9_compareTo_0 9 rfl rfl)
theorem dJ9_compareTo_10 : decode cJ9_compareTo 10 = .ok (.aload_n 0, 1) := dk_42 (dk_at dksJ9_compareTo_0 10 rfl rfl)
theorem dJ9_compareTo_11 : decode cJ9_compareTo 11 = .ok (.invokevirtual 335, 3) := dk_182 1 79 (dk_at dksJ9_compareTo_0 11 rfl rfl)
theorem dJ9_compareTo_14 : decode cJ9_compareTo 14 = .ok (.istore 4, 2) := dk_54 4 (dk_at dksJ9_compareTo_0 14 rfl rfl)
theorem dJ9_compareTo_16 : decode cJ9_compareTo 16 = .ok (.iload 4, 2) := dk_21 4 (dk_at dksJ9_compareTo_0 16 rfl rfl)
theorem dJ9_compareTo_18 : decode cJ9_compareTo 18 = .ok (.aload_n 1, 1) := dk_43 (dk_at dksJ9_compareTo_0 18 rfl rfl)
theorem dJ9_compareTo_19 : decode cJ9_compareTo 19 = .ok (.invokevirtual 335, 3) := dk_182 1 79 (dk_at dksJ9_compareTo_0 19 rfl rfl)
theorem dJ9_compareTo_22 : decode cJ9_compareTo 22 = .ok (.if_icmp .ne 22, 3) := dk_160 0 22 (dk_at dksJ9_compareTo_1 0 rfl rfl)
theorem dJ9_compareTo_25 : decode cJ9_compareTo 25 = .ok (.iload 4, 2) := dk_21 4 (dk_at dksJ9_compareTo_1 3 rfl rfl)
theorem dJ9_compareTo_27 : decode cJ9_compareTo 27 = .ok (.ifCond .ne 11, 3) := dk_154 0 11 (dk_at dksJ9_compareTo_1 5 rfl rfl)
theorem dJ9_compareTo_30 : decode cJ9_compareTo 30 = .ok (.aload_n 2, 1) := dk_44 (dk_at dksJ9_compareTo_1 8 rfl rfl)
theorem dJ9_compareTo_31 : decode cJ9_compareTo 31 = .ok (.aload_n 3, 1) := dk_45 (dk_at dksJ9_compareTo_1 9 rfl rfl)
theorem dJ9_compareTo_32 : decode cJ9_compareTo 32 = .ok (.invokestatic 586, 3) := dk_184 2 74 (dk_at dksJ9_compareTo_1 10 rfl rfl)
theorem dJ9_compareTo_35 : decode cJ9_compareTo 35 = .ok (.goto 8, 3) := dk_167 0 8 (dk_at dksJ9_compareTo_1 13 rfl rfl)
theorem dJ9_compareTo_38 : decode cJ9_compareTo 38 = .ok (.aload_n 2, 1) := dk_44 (dk_at dksJ9_compareTo_1 16 rfl rfl)
theorem dJ9_compareTo_39 : decode cJ9_compareTo 39 = .ok (.aload_n 3, 1) := dk_45 (dk_at dksJ9_compareTo_1 17 rfl rfl)
theorem dJ9_compareTo_40 : decode cJ9_compareTo 40 = .ok (.invokestatic 590, 3) := dk_184 2 78 (dk_at dksJ9_compareTo_1 18 rfl rfl)
theorem dJ9_compareTo_43 : decode cJ9_compareTo 43 = .ok (.ireturn, 1) := dk_172 (dk_at dksJ9_compareTo_1 21 rfl rfl)
theorem dJ9_compareTo_44 : decode cJ9_compareTo 44 = .ok (.iload 4, 2) := dk_21 4 (dk_at dksJ9_compareTo_1 22 rfl rfl)
theorem dJ9_compareTo_46 : decode cJ9_compareTo 46 = .ok (.ifCond .ne 11, 3) := dk_154 0 11 (dk_at dksJ9_compareTo_2 0 rfl rfl)
theorem dJ9_compareTo_49 : decode cJ9_compareTo 49 = .ok (.aload_n 2, 1) := dk_44 (dk_at dksJ9_compareTo_2 3 rfl rfl)
theorem dJ9_compareTo_50 : decode cJ9_compareTo 50 = .ok (.aload_n 3, 1) := dk_45 (dk_at dksJ9_compareTo_2 4 rfl rfl)
theorem dJ9_compareTo_51 : decode cJ9_compareTo 51 = .ok (.invokestatic 591, 3) := dk_184 2 79 (dk_at dksJ9_compareTo_2 5 rfl rfl)
theorem dJ9_compareTo_54 : decode cJ9_compareTo 54 = .ok (.goto 8, 3) := dk_167 0 8 (dk_at dksJ9_compareTo_2 8 rfl rfl)
theorem dJ9_compareTo_57 : decode cJ9_compareTo 57 = .ok (.aload_n 2, 1) := dk_44 (dk_at dksJ9_compareTo_2 11 rfl rfl)
theorem dJ9_compareTo_58 : decode cJ9_compareTo 58 = .ok (.aload_n 3, 1) := dk_45 (dk_at dksJ9_compareTo_2 12 rfl rfl)
theorem dJ9_compareTo_59 : decode cJ9_compareTo 59 = .ok (.invokestatic 594, 3) := dk_184 2 82 (dk_at dksJ9_compareTo_2 13 rfl rfl)
theorem dJ9_compareTo_62 : decode cJ9_compareTo 62 = .ok (.ireturn, 1) := dk_172 (dk_at dksJ9_compareTo_2 16 rfl rfl)
abbrev cJ9_compareTo_2 : ByteArray := prog_32_method_162_code
def yJ9_compareTo_2 : MethodName := ⟨RJ9, "compareTo", "(Ljava/lang/Object;)I"⟩
def dkwJ9_compareTo_2_0 : List UInt8 := [42, 43, 192, 0, 10, 182, 4, 60, 172]
abbrev dktJ9_compareTo_2_0 : List UInt8 := dkwJ9_compareTo_2_0 ++ []
theorem dksJ9_compareTo_2_0 : cJ9_compareTo_2.data.toList.drop 0 = dktJ9_compareTo_2_0 := by decide +kernel
theorem dJ9_compareTo_2_0 : decode cJ9_compareTo_2 0 = .ok (.aload_n 0, 1) := dk_42 (dk_at dksJ9_compareTo_2_0 0 rfl rfl)
theorem dJ9_compareTo_2_1 : decode cJ9_compareTo_2 1 = .ok (.aload_n 1, 1) := dk_43 (dk_at dksJ9_compareTo_2_0 1 rfl rfl)
theorem dJ9_compareTo_2_2 : decode cJ9_compareTo_2 2 = .ok (.checkcast 10, 3) := dk_192 0 10 (dk_at dksJ9_compareTo_2_0 2 rfl rfl)
theorem dJ9_compareTo_2_5 : decode cJ9_compareTo_2 5 = .ok (.invokevirtual 1084, 3) := dk_182 4 60 (dk_at dksJ9_compareTo_2_0 5 rfl rfl)
theorem dJ9_compareTo_2_8 : decode cJ9_compareTo_2 8 = .ok (.ireturn, 1) := dk_172 (dk_at dksJ9_compareTo_2_0 8 rfl rfl)
abbrev cJ9_checkOffset : ByteArray := prog_32_method_156_code
def yJ9_checkOffset : MethodName := ⟨RJ9, "checkOffset", "(II)V"⟩
def dkwJ9_checkOffset_0 : List UInt8 := [26, 27, 27, 178, 4, 29, 184, 4, 38, 87, 177]
abbrev dktJ9_checkOffset_0 : List UInt8 := dkwJ9_checkOffset_0 ++ []
theorem dksJ9_checkOffset_0 : cJ9_checkOffset.data.toList.drop 0 = dktJ9_checkOffset_0 := by decide +kernel
theorem dJ9_checkOffset_0 : decode cJ9_checkOffset 0 = .ok (.iload_n 0, 1) := dk_26 (dk_at dksJ9_checkOffset_0 0 rfl rfl)
theorem dJ9_checkOffset_1 : decode cJ9_checkOffset 1 = .ok (.iload_n 1, 1) := dk_27 (dk_at dksJ9_checkOffset_0 1 rfl rfl)
theorem dJ9_checkOffset_2 : decode cJ9_checkOffset 2 = .ok (.iload_n 1, 1) := dk_27 (dk_at dksJ9_checkOffset_0 2 rfl rfl)
theorem dJ9_checkOffset_3 : decode cJ9_checkOffset 3 = .ok (.getstatic 1053, 3) := dk_178 4 29 (dk_at dksJ9_checkOffset_0 3 rfl rfl)
theorem dJ9_checkOffset_6 : decode cJ9_checkOffset 6 = .ok (.invokestatic 1062, 3) := dk_184 4 38 (dk_at dksJ9_checkOffset_0 6 rfl rfl)
theorem dJ9_checkOffset_9 : decode cJ9_checkOffset 9 = .ok (.pop, 1) := dk_87 (dk_at dksJ9_checkOffset_0 9 rfl rfl)
theorem dJ9_checkOffset_10 : decode cJ9_checkOffset 10 = .ok (.return_, 1) := dk_177 (dk_at dksJ9_checkOffset_0 10 rfl rfl)
abbrev cJ9_charAt : ByteArray := prog_32_method_56_code
def yJ9_charAt : MethodName := ⟨RJ9, "charAt", "(I)C"⟩
def dkwJ9_charAt_1 : List UInt8 := [172]
abbrev dktJ9_charAt_1 : List UInt8 := dkwJ9_charAt_1 ++ []
def dkwJ9_charAt_0 : List UInt8 := [42, 182, 1, 236, 153, 0, 12, 42, 180, 0, 9, 27, 184, 1, 239, 172, 42, 180, 0, 9, 27, 184, 1, 242]
abbrev dktJ9_charAt_0 : List UInt8 := dkwJ9_charAt_0 ++ dktJ9_charAt_1
theorem dksJ9_charAt_0 : cJ9_charAt.data.toList.drop 0 = dktJ9_charAt_0 := by decide +kernel
theorem dksJ9_charAt_1 : cJ9_charAt.data.toList.drop 24 = dktJ9_charAt_1 := dk_seg dksJ9_charAt_0 24 rfl rfl
theorem dJ9_charAt_0 : decode cJ9_charAt 0 = .ok (.aload_n 0, 1) := dk_42 (dk_at dksJ9_charAt_0 0 rfl rfl)
theorem dJ9_charAt_1 : decode cJ9_charAt 1 = .ok (.invokevirtual 492, 3) := dk_182 1 236 (dk_at dksJ9_charAt_0 1 rfl rfl)
theorem dJ9_charAt_4 : decode cJ9_charAt 4 = .ok (.ifCond .eq 12, 3) := dk_153 0 12 (dk_at dksJ9_charAt_0 4 rfl rfl)
theorem dJ9_charAt_7 : decode cJ9_charAt 7 = .ok (.aload_n 0, 1) := dk_42 (dk_at dksJ9_charAt_0 7 rfl rfl)
theorem dJ9_charAt_8 : decode cJ9_charAt 8 = .ok (.getfield 9, 3) := dk_180 0 9 (dk_at dksJ9_charAt_0 8 rfl rfl)
theorem dJ9_charAt_11 : decode cJ9_charAt 11 = .ok (.iload_n 1, 1) := dk_27 (dk_at dksJ9_charAt_0 11 rfl rfl)
theorem dJ9_charAt_12 : decode cJ9_charAt 12 = .ok (.invokestatic 495, 3) := dk_184 1 239 (dk_at dksJ9_charAt_0 12 rfl rfl)
theorem dJ9_charAt_15 : decode cJ9_charAt 15 = .ok (.ireturn, 1) := dk_172 (dk_at dksJ9_charAt_0 15 rfl rfl)
theorem dJ9_charAt_16 : decode cJ9_charAt 16 = .ok (.aload_n 0, 1) := dk_42 (dk_at dksJ9_charAt_0 16 rfl rfl)
theorem dJ9_charAt_17 : decode cJ9_charAt 17 = .ok (.getfield 9, 3) := dk_180 0 9 (dk_at dksJ9_charAt_0 17 rfl rfl)
theorem dJ9_charAt_20 : decode cJ9_charAt 20 = .ok (.iload_n 1, 1) := dk_27 (dk_at dksJ9_charAt_0 20 rfl rfl)
theorem dJ9_charAt_21 : decode cJ9_charAt 21 = .ok (.invokestatic 498, 3) := dk_184 1 242 (dk_at dksJ9_charAt_0 21 rfl rfl)
theorem dJ9_charAt_24 : decode cJ9_charAt 24 = .ok (.ireturn, 1) := dk_172 (dk_at dksJ9_charAt_1 0 rfl rfl)
abbrev cJ9_isLatin1 : ByteArray := prog_32_method_154_code
def yJ9_isLatin1 : MethodName := ⟨RJ9, "isLatin1", "()Z"⟩
def dkwJ9_isLatin1_0 : List UInt8 := [178, 0, 38, 153, 0, 14, 42, 180, 0, 15, 154, 0, 7, 4, 167, 0, 4, 3, 172]
abbrev dktJ9_isLatin1_0 : List UInt8 := dkwJ9_isLatin1_0 ++ []
theorem dksJ9_isLatin1_0 : cJ9_isLatin1.data.toList.drop 0 = dktJ9_isLatin1_0 := by decide +kernel
theorem dJ9_isLatin1_0 : decode cJ9_isLatin1 0 = .ok (.getstatic 38, 3) := dk_178 0 38 (dk_at dksJ9_isLatin1_0 0 rfl rfl)
theorem dJ9_isLatin1_3 : decode cJ9_isLatin1 3 = .ok (.ifCond .eq 14, 3) := dk_153 0 14 (dk_at dksJ9_isLatin1_0 3 rfl rfl)
theorem dJ9_isLatin1_6 : decode cJ9_isLatin1 6 = .ok (.aload_n 0, 1) := dk_42 (dk_at dksJ9_isLatin1_0 6 rfl rfl)
theorem dJ9_isLatin1_7 : decode cJ9_isLatin1 7 = .ok (.getfield 15, 3) := dk_180 0 15 (dk_at dksJ9_isLatin1_0 7 rfl rfl)
theorem dJ9_isLatin1_10 : decode cJ9_isLatin1 10 = .ok (.ifCond .ne 7, 3) := dk_154 0 7 (dk_at dksJ9_isLatin1_0 10 rfl rfl)
theorem dJ9_isLatin1_13 : decode cJ9_isLatin1 13 = .ok (.iconst 1, 1) := dk_4 (dk_at dksJ9_isLatin1_0 13 rfl rfl)
theorem dJ9_isLatin1_14 : decode cJ9_isLatin1 14 = .ok (.goto 4, 3) := dk_167 0 4 (dk_at dksJ9_isLatin1_0 14 rfl rfl)
theorem dJ9_isLatin1_17 : decode cJ9_isLatin1 17 = .ok (.iconst 0, 1) := dk_3 (dk_at dksJ9_isLatin1_0 17 rfl rfl)
theorem dJ9_isLatin1_18 : decode cJ9_isLatin1 18 = .ok (.ireturn, 1) := dk_172 (dk_at dksJ9_isLatin1_0 18 rfl rfl)
theorem q51 : (Jvm.Cond.initialized "java/lang/String") ∈ lw_all := lw_g (lw_at lw_m1 16 rfl) rfl
theorem q385 : (Jvm.Cond.instanceMethod ({ cls := "java/lang/String", name := "length", desc := "()I" } : Jvm.MethodName)) ∈ lw_all := lw_g (lw_at lw_m2 110 rfl) rfl
theorem q386 : (Jvm.Cond.selects "java/lang/String" ({ cls := "java/lang/String", name := "length", desc := "()I" } : Jvm.MethodName) ({ cls := "java/lang/String", name := "length", desc := "()I" } : Jvm.MethodName)) ∈ lw_all := lw_g (lw_at lw_m2 111 rfl) rfl
theorem q387 : (Jvm.Cond.code ({ cls := "java/lang/String", name := "length", desc := "()I" } : Jvm.MethodName) prog_32_method_54_code (1 : Nat) (Option.some Jvm.ClassFile.FieldType.int)) ∈ lw_all := lw_g (lw_at lw_m2 112 rfl) rfl
theorem q388 : (Jvm.Cond.methodLink "java/lang/String" (335 : Nat) ({ cls := "java/lang/String", name := "coder", desc := "()B" } : Jvm.MethodName)) ∈ lw_all := lw_g (lw_at lw_m2 113 rfl) rfl
theorem q389 : (Jvm.Cond.instanceMethod ({ cls := "java/lang/String", name := "coder", desc := "()B" } : Jvm.MethodName)) ∈ lw_all := lw_g (lw_at lw_m2 114 rfl) rfl
theorem q390 : (Jvm.Cond.selects "java/lang/String" ({ cls := "java/lang/String", name := "coder", desc := "()B" } : Jvm.MethodName) ({ cls := "java/lang/String", name := "coder", desc := "()B" } : Jvm.MethodName)) ∈ lw_all := lw_g (lw_at lw_m2 115 rfl) rfl
theorem q391 : (Jvm.Cond.code ({ cls := "java/lang/String", name := "coder", desc := "()B" } : Jvm.MethodName) prog_32_method_152_code (1 : Nat) (Option.some Jvm.ClassFile.FieldType.byte)) ∈ lw_all := lw_g (lw_at lw_m2 116 rfl) rfl
theorem q392 : (Jvm.Cond.fieldLink "java/lang/String" (38 : Nat) "java/lang/String" "COMPACT_STRINGS" "Z") ∈ lw_all := lw_g (lw_at lw_m2 117 rfl) rfl
theorem q393 : (Jvm.Cond.laysStatic "java/lang/String" "COMPACT_STRINGS" "Z") ∈ lw_tbl := lw_at lw_m2 118 rfl
theorem q431 : (Jvm.Cond.fieldLink "java/lang/String" (1048 : Nat) "java/lang/AbstractStringBuilder" "maybeLatin1" "Z") ∈ lw_all := lw_g (lw_at lw_m2 156 rfl) rfl
theorem q501 : (Jvm.Cond.static ({ cls := "java/lang/String", name := "checkBoundsBeginEnd", desc := "(III)V" } : Jvm.MethodName)) ∈ lw_all := lw_g (lw_at lw_m2 226 rfl) rfl
theorem q502 : (Jvm.Cond.code ({ cls := "java/lang/String", name := "checkBoundsBeginEnd", desc := "(III)V" } : Jvm.MethodName) prog_32_method_158_code (3 : Nat) (Option.none : Option Jvm.ClassFile.FieldType)) ∈ lw_all := lw_g (lw_at lw_m2 227 rfl) rfl
theorem q503 : (Jvm.Cond.fieldLink "java/lang/String" (1053 : Nat) "jdk/internal/util/Preconditions" "SIOOBE_FORMATTER" "Ljava/util/function/BiFunction;") ∈ lw_all := lw_g (lw_at lw_m2 228 rfl) rfl
theorem q505 : (Jvm.Cond.methodLink "java/lang/String" (1062 : Nat) ({ cls := "jdk/internal/util/Preconditions", name := "checkFromToIndex", desc := "(IIILjava/util/function/BiFunction;)I" } : Jvm.MethodName)) ∈ lw_all := lw_g (lw_at lw_m2 230 rfl) rfl
theorem q541 : (Jvm.Cond.static ({ cls := "java/lang/String", name := "checkBoundsOffCount", desc := "(III)I" } : Jvm.MethodName)) ∈ lw_all := lw_g (lw_at lw_m3 26 rfl) rfl
theorem q542 : (Jvm.Cond.code ({ cls := "java/lang/String", name := "checkBoundsOffCount", desc := "(III)I" } : Jvm.MethodName) prog_32_method_157_code (3 : Nat) (Option.some Jvm.ClassFile.FieldType.int)) ∈ lw_all := lw_g (lw_at lw_m3 27 rfl) rfl
theorem q543 : (Jvm.Cond.methodLink "java/lang/String" (1065 : Nat) ({ cls := "jdk/internal/util/Preconditions", name := "checkFromIndexSize", desc := "(IIILjava/util/function/BiFunction;)I" } : Jvm.MethodName)) ∈ lw_all := lw_g (lw_at lw_m3 28 rfl) rfl
theorem q547 : (Jvm.Cond.instanceMethod ({ cls := "java/lang/String", name := "getBytes", desc := "([BIB)V" } : Jvm.MethodName)) ∈ lw_all := lw_g (lw_at lw_m3 32 rfl) rfl
theorem q548 : (Jvm.Cond.selects "java/lang/String" ({ cls := "java/lang/String", name := "getBytes", desc := "([BIB)V" } : Jvm.MethodName) ({ cls := "java/lang/String", name := "getBytes", desc := "([BIB)V" } : Jvm.MethodName)) ∈ lw_all := lw_g (lw_at lw_m3 33 rfl) rfl
theorem q549 : (Jvm.Cond.code ({ cls := "java/lang/String", name := "getBytes", desc := "([BIB)V" } : Jvm.MethodName) prog_32_method_147_code (4 : Nat) (Option.none : Option Jvm.ClassFile.FieldType)) ∈ lw_all := lw_g (lw_at lw_m3 34 rfl) rfl
theorem q550 : (Jvm.Cond.methodLink "java/lang/String" (212 : Nat) ({ cls := "java/lang/System", name := "arraycopy", desc := "(Ljava/lang/Object;ILjava/lang/Object;II)V" } : Jvm.MethodName)) ∈ lw_all := lw_g (lw_at lw_m3 35 rfl) rfl
theorem q551 : (Jvm.Cond.methodLink "java/lang/String" (106 : Nat) ({ cls := "java/lang/StringLatin1", name := "inflate", desc := "([BI[BII)V" } : Jvm.MethodName)) ∈ lw_all := lw_g (lw_at lw_m3 36 rfl) rfl
theorem q569 : (Jvm.Cond.static ({ cls := "java/lang/String", name := "checkIndex", desc := "(II)V" } : Jvm.MethodName)) ∈ lw_all := lw_g (lw_at lw_m3 54 rfl) rfl
theorem q570 : (Jvm.Cond.code ({ cls := "java/lang/String", name := "checkIndex", desc := "(II)V" } : Jvm.MethodName) prog_32_method_155_code (2 : Nat) (Option.none : Option Jvm.ClassFile.FieldType)) ∈ lw_all := lw_g (lw_at lw_m3 55 rfl) rfl
theorem q571 : (Jvm.Cond.methodLink "java/lang/String" (1059 : Nat) ({ cls := "jdk/internal/util/Preconditions", name := "checkIndex", desc := "(IILjava/util/function/BiFunction;)I" } : Jvm.MethodName)) ∈ lw_all := lw_g (lw_at lw_m3 56 rfl) rfl
theorem q577 : (Jvm.Cond.instantiable "java/lang/String" (4 : Nat)) ∈ lw_all := lw_g (lw_at lw_m3 62 rfl) rfl
theorem q579 : (Jvm.Cond.instanceMethod ({ cls := "java/lang/String", name := "<init>", desc := "(Ljava/lang/StringBuilder;)V" } : Jvm.MethodName)) ∈ lw_all := lw_g (lw_at lw_m3 64 rfl) rfl
theorem q580 : (Jvm.Cond.code ({ cls := "java/lang/String", name := "<init>", desc := "(Ljava/lang/StringBuilder;)V" } : Jvm.MethodName) prog_32_method_53_code (2 : Nat) (Option.none : Option Jvm.ClassFile.FieldType)) ∈ lw_all := lw_g (lw_at lw_m3 65 rfl) rfl
theorem q581 : (Jvm.Cond.methodLink "java/lang/String" (489 : Nat) ({ cls := "java/lang/String", name := "<init>", desc := "(Ljava/lang/AbstractStringBuilder;Ljava/lang/Void;)V" } : Jvm.MethodName)) ∈ lw_all := lw_g (lw_at lw_m3 66 rfl) rfl
theorem q582 : (Jvm.Cond.instanceMethod ({ cls := "java/lang/String", name := "<init>", desc := "(Ljava/lang/AbstractStringBuilder;Ljava/lang/Void;)V" } : Jvm.MethodName)) ∈ lw_all := lw_g (lw_at lw_m3 67 rfl) rfl
theorem q583 : (Jvm.Cond.code ({ cls := "java/lang/String", name := "<init>", desc := "(Ljava/lang/AbstractStringBuilder;Ljava/lang/Void;)V" } : Jvm.MethodName) prog_32_method_150_code (5 : Nat) (Option.none : Option Jvm.ClassFile.FieldType)) ∈ lw_all := lw_g (lw_at lw_m3 68 rfl) rfl
theorem q584 : (Jvm.Cond.methodLink "java/lang/String" (1 : Nat) ({ cls := "java/lang/Object", name := "<init>", desc := "()V" } : Jvm.MethodName)) ∈ lw_all := lw_g (lw_at lw_m3 69 rfl) rfl
theorem q585 : (Jvm.Cond.methodLink "java/lang/String" (552 : Nat) ({ cls := "java/lang/AbstractStringBuilder", name := "getValue", desc := "()[B" } : Jvm.MethodName)) ∈ lw_all := lw_g (lw_at lw_m3 70 rfl) rfl
theorem q590 : (Jvm.Cond.methodLink "java/lang/String" (549 : Nat) ({ cls := "java/lang/AbstractStringBuilder", name := "length", desc := "()I" } : Jvm.MethodName)) ∈ lw_all := lw_g (lw_at lw_m3 75 rfl) rfl
theorem q598 : (Jvm.Cond.methodLink "java/lang/String" (1047 : Nat) ({ cls := "java/lang/AbstractStringBuilder", name := "isLatin1", desc := "()Z" } : Jvm.MethodName)) ∈ lw_all := lw_g (lw_at lw_m3 83 rfl) rfl
theorem q599 : (Jvm.Cond.methodLink "java/lang/String" (54 : Nat) ({ cls := "java/util/Arrays", name := "copyOfRange", desc := "([BII)[B" } : Jvm.MethodName)) ∈ lw_all := lw_g (lw_at lw_m3 84 rfl) rfl
theorem q651 : (Jvm.Cond.methodLink "java/lang/String" (1051 : Nat) ({ cls := "java/lang/StringUTF16", name := "compress", desc := "([BII)[B" } : Jvm.MethodName)) ∈ lw_all := lw_g (lw_at lw_m3 136 rfl) rfl
theorem q661 : (Jvm.Cond.methodLink "java/lang/String" (47 : Nat) ({ cls := "java/lang/StringUTF16", name := "coderFromArrayLen", desc := "([BI)B" } : Jvm.MethodName)) ∈ lw_all := lw_g (lw_at lw_m3 146 rfl) rfl
theorem q664 : (Jvm.Cond.fieldLink "java/lang/String" (9 : Nat) "java/lang/String" "value" "[B") ∈ lw_all := lw_g (lw_at lw_m3 149 rfl) rfl
theorem q665 : (Jvm.Cond.fieldLink "java/lang/String" (15 : Nat) "java/lang/String" "coder" "B") ∈ lw_all := lw_g (lw_at lw_m3 150 rfl) rfl
theorem q666 : (Jvm.Cond.laysFinal "java/lang/String" "java/lang/String" "value" "[B") ∈ lw_all := lw_g (lw_at lw_m3 151 rfl) rfl
theorem q667 : (Jvm.Cond.soleField "java/lang/String" "value") ∈ lw_all := lw_g (lw_at lw_m3 152 rfl) rfl
theorem q668 : (Jvm.Cond.laysFinal "java/lang/String" "java/lang/String" "coder" "B") ∈ lw_all := lw_g (lw_at lw_m3 153 rfl) rfl
theorem q669 : (Jvm.Cond.soleField "java/lang/String" "coder") ∈ lw_all := lw_g (lw_at lw_m3 154 rfl) rfl
theorem q670 : (Jvm.Cond.lays "java/lang/String" "java/lang/String" "hash" "I") ∈ lw_all := lw_g (lw_at lw_m3 155 rfl) rfl
theorem q671 : (Jvm.Cond.soleField "java/lang/String" "hash") ∈ lw_all := lw_g (lw_at lw_m3 156 rfl) rfl
theorem q672 : (Jvm.Cond.lays "java/lang/String" "java/lang/String" "hashIsZero" "Z") ∈ lw_all := lw_g (lw_at lw_m3 157 rfl) rfl
theorem q673 : (Jvm.Cond.soleField "java/lang/String" "hashIsZero") ∈ lw_all := lw_g (lw_at lw_m3 158 rfl) rfl
theorem q674 : (Jvm.Cond.superclass "java/lang/String" "java/lang/Object") ∈ lw_all := lw_g (lw_at lw_m3 159 rfl) rfl
theorem q781 : (Jvm.Cond.selects "java/lang/String" ({ cls := "java/lang/Object", name := "getClass", desc := "()Ljava/lang/Class;" } : Jvm.MethodName) ({ cls := "java/lang/Object", name := "getClass", desc := "()Ljava/lang/Class;" } : Jvm.MethodName)) ∈ lw_all := lw_g (lw_at lw_m4 26 rfl) rfl
theorem q875 : (Jvm.Cond.instanceMethod ({ cls := "java/lang/String", name := "compareTo", desc := "(Ljava/lang/String;)I" } : Jvm.MethodName)) ∈ lw_all := lw_g (lw_at lw_m4 120 rfl) rfl
theorem q876 : (Jvm.Cond.selects "java/lang/String" ({ cls := "java/lang/String", name := "compareTo", desc := "(Ljava/lang/String;)I" } : Jvm.MethodName) ({ cls := "java/lang/String", name := "compareTo", desc := "(Ljava/lang/String;)I" } : Jvm.MethodName)) ∈ lw_all := lw_g (lw_at lw_m4 121 rfl) rfl
theorem q877 : (Jvm.Cond.code ({ cls := "java/lang/String", name := "compareTo", desc := "(Ljava/lang/String;)I" } : Jvm.MethodName) prog_32_method_71_code (5 : Nat) (Option.some Jvm.ClassFile.FieldType.int)) ∈ lw_all := lw_g (lw_at lw_m4 122 rfl) rfl
theorem q878 : (Jvm.Cond.methodLink "java/lang/String" (586 : Nat) ({ cls := "java/lang/StringLatin1", name := "compareTo", desc := "([B[B)I" } : Jvm.MethodName)) ∈ lw_all := lw_g (lw_at lw_m4 123 rfl) rfl
theorem q992 : (Jvm.Cond.methodLink "java/lang/String" (590 : Nat) ({ cls := "java/lang/StringUTF16", name := "compareTo", desc := "([B[B)I" } : Jvm.MethodName)) ∈ lw_all := lw_g (lw_at lw_m4 237 rfl) rfl
theorem q999 : (Jvm.Cond.methodLink "java/lang/String" (591 : Nat) ({ cls := "java/lang/StringLatin1", name := "compareToUTF16", desc := "([B[B)I" } : Jvm.MethodName)) ∈ lw_all := lw_g (lw_at lw_m5 4 rfl) rfl
theorem q1010 : (Jvm.Cond.methodLink "java/lang/String" (594 : Nat) ({ cls := "java/lang/StringUTF16", name := "compareToLatin1", desc := "([B[B)I" } : Jvm.MethodName)) ∈ lw_all := lw_g (lw_at lw_m5 15 rfl) rfl
theorem q1022 : (Jvm.Cond.castable "java/lang/String" "java/lang/Comparable") ∈ lw_tbl := lw_at lw_m5 27 rfl
theorem q1023 : (Jvm.Cond.selects "java/lang/String" ({ cls := "java/lang/Comparable", name := "compareTo", desc := "(Ljava/lang/Object;)I" } : Jvm.MethodName) ({ cls := "java/lang/String", name := "compareTo", desc := "(Ljava/lang/Object;)I" } : Jvm.MethodName)) ∈ lw_all := lw_g (lw_at lw_m5 28 rfl) rfl
theorem q1024 : (Jvm.Cond.unhidden "java/lang/String" "compareTo" "(Ljava/lang/Object;)I") ∈ lw_tbl := lw_at lw_m5 29 rfl
theorem q1025 : (Jvm.Cond.instanceMethod ({ cls := "java/lang/String", name := "compareTo", desc := "(Ljava/lang/Object;)I" } : Jvm.MethodName)) ∈ lw_all := lw_g (lw_at lw_m5 30 rfl) rfl
theorem q1026 : (Jvm.Cond.publicMethod ({ cls := "java/lang/String", name := "compareTo", desc := "(Ljava/lang/Object;)I" } : Jvm.MethodName)) ∈ lw_tbl := lw_at lw_m5 31 rfl
theorem q1027 : (Jvm.Cond.code ({ cls := "java/lang/String", name := "compareTo", desc := "(Ljava/lang/Object;)I" } : Jvm.MethodName) prog_32_method_162_code (2 : Nat) (Option.some Jvm.ClassFile.FieldType.int)) ∈ lw_all := lw_g (lw_at lw_m5 32 rfl) rfl
theorem q1028 : (Jvm.Cond.classLink "java/lang/String" (10 : Nat) "java/lang/String") ∈ lw_all := lw_g (lw_at lw_m5 33 rfl) rfl
theorem q1029 : (Jvm.Cond.methodLink "java/lang/String" (1084 : Nat) ({ cls := "java/lang/String", name := "compareTo", desc := "(Ljava/lang/String;)I" } : Jvm.MethodName)) ∈ lw_all := lw_g (lw_at lw_m5 34 rfl) rfl
theorem q1052 : (Jvm.Cond.static ({ cls := "java/lang/String", name := "checkOffset", desc := "(II)V" } : Jvm.MethodName)) ∈ lw_all := lw_g (lw_at lw_m5 57 rfl) rfl
theorem q1053 : (Jvm.Cond.code ({ cls := "java/lang/String", name := "checkOffset", desc := "(II)V" } : Jvm.MethodName) prog_32_method_156_code (2 : Nat) (Option.none : Option Jvm.ClassFile.FieldType)) ∈ lw_all := lw_g (lw_at lw_m5 58 rfl) rfl
theorem q1148 : (Jvm.Cond.instanceMethod ({ cls := "java/lang/String", name := "charAt", desc := "(I)C" } : Jvm.MethodName)) ∈ lw_all := lw_g (lw_at lw_m5 153 rfl) rfl
theorem q1149 : (Jvm.Cond.selects "java/lang/String" ({ cls := "java/lang/String", name := "charAt", desc := "(I)C" } : Jvm.MethodName) ({ cls := "java/lang/String", name := "charAt", desc := "(I)C" } : Jvm.MethodName)) ∈ lw_all := lw_g (lw_at lw_m5 154 rfl) rfl
theorem q1150 : (Jvm.Cond.code ({ cls := "java/lang/String", name := "charAt", desc := "(I)C" } : Jvm.MethodName) prog_32_method_56_code (2 : Nat) (Option.some Jvm.ClassFile.FieldType.char)) ∈ lw_all := lw_g (lw_at lw_m5 155 rfl) rfl
theorem q1151 : (Jvm.Cond.methodLink "java/lang/String" (492 : Nat) ({ cls := "java/lang/String", name := "isLatin1", desc := "()Z" } : Jvm.MethodName)) ∈ lw_all := lw_g (lw_at lw_m5 156 rfl) rfl
theorem q1152 : (Jvm.Cond.instanceMethod ({ cls := "java/lang/String", name := "isLatin1", desc := "()Z" } : Jvm.MethodName)) ∈ lw_all := lw_g (lw_at lw_m5 157 rfl) rfl
theorem q1153 : (Jvm.Cond.selects "java/lang/String" ({ cls := "java/lang/String", name := "isLatin1", desc := "()Z" } : Jvm.MethodName) ({ cls := "java/lang/String", name := "isLatin1", desc := "()Z" } : Jvm.MethodName)) ∈ lw_all := lw_g (lw_at lw_m5 158 rfl) rfl
theorem q1154 : (Jvm.Cond.code ({ cls := "java/lang/String", name := "isLatin1", desc := "()Z" } : Jvm.MethodName) prog_32_method_154_code (1 : Nat) (Option.some Jvm.ClassFile.FieldType.boolean)) ∈ lw_all := lw_g (lw_at lw_m5 159 rfl) rfl
theorem q1155 : (Jvm.Cond.methodLink "java/lang/String" (495 : Nat) ({ cls := "java/lang/StringLatin1", name := "charAt", desc := "([BI)C" } : Jvm.MethodName)) ∈ lw_all := lw_g (lw_at lw_m5 160 rfl) rfl
theorem q1159 : (Jvm.Cond.methodLink "java/lang/String" (498 : Nat) ({ cls := "java/lang/StringUTF16", name := "charAt", desc := "([BI)C" } : Jvm.MethodName)) ∈ lw_all := lw_g (lw_at lw_m5 164 rfl) rfl
theorem q1793 : (Jvm.Cond.castable "java/lang/String" "java/lang/Object") ∈ lw_tbl := lw_at lw_m8 78 rfl
theorem in_J9 : ∀ w ∈ wsJ90, w ∈ lw_all := lw_in wsJ90 [666, 668, 670, 672] (by decide +kernel) (by decide +kernel)

/-! java/lang/Throwable -/
set_option maxRecDepth 100000
def RJ5 : String := "java/lang/Throwable"
def TJ5 : u_T := fun k => match k with
  | 0 => ("java/lang/Throwable", "cause", "Ljava/lang/Throwable;", false)
  | 1 => ("java/lang/Throwable", "stackTrace", "[Ljava/lang/StackTraceElement;", false)
  | 2 => ("java/lang/Throwable", "suppressedExceptions", "Ljava/util/List;", false)
  | 3 => ("java/lang/Throwable", "detailMessage", "Ljava/lang/String;", false)
  | _ => ("java/lang/Throwable", "backtrace", "Ljava/lang/Object;", false)
def tyJ5 : Nat → FieldType := fun k => match k with
  | 0 => .object "java/lang/Throwable"
  | 1 => .array (.object "java/lang/StackTraceElement")
  | 2 => .object "java/util/List"
  | 3 => .object "java/lang/String"
  | _ => .object "java/lang/Object"
abbrev wsJ50 : List Cond := u_ws RJ5 TJ5 5
theorem nmJ5 : ∀ a, a < 5 → ∀ b, b < 5 → a ≠ b → (TJ5 a).2.1 ≠ (TJ5 b).2.1 := by decide +kernel
theorem tyJ5_ok : ∀ k, k < 5 → parseFieldDescriptor (TJ5 k).2.2.1 = some (tyJ5 k) := by decide +kernel
theorem q47 : (Jvm.Cond.initialized "java/lang/Throwable") ∈ lw_all := lw_g (lw_at lw_m1 12 rfl) rfl
theorem q326 : (Jvm.Cond.declares ({ cls := "java/lang/Throwable", name := "<init>", desc := "()V" } : Jvm.MethodName)) ∈ lw_tbl := lw_at lw_m2 51 rfl
theorem q327 : (Jvm.Cond.declares ({ cls := "java/lang/Throwable", name := "<init>", desc := "(Ljava/lang/String;)V" } : Jvm.MethodName)) ∈ lw_tbl := lw_at lw_m2 52 rfl
theorem q331 : (Jvm.Cond.lays "java/lang/Throwable" "java/lang/Throwable" "cause" "Ljava/lang/Throwable;") ∈ lw_all := lw_g (lw_at lw_m2 56 rfl) rfl
theorem q333 : (Jvm.Cond.lays "java/lang/Throwable" "java/lang/Throwable" "stackTrace" "[Ljava/lang/StackTraceElement;") ∈ lw_all := lw_g (lw_at lw_m2 58 rfl) rfl
theorem q335 : (Jvm.Cond.lays "java/lang/Throwable" "java/lang/Throwable" "suppressedExceptions" "Ljava/util/List;") ∈ lw_all := lw_g (lw_at lw_m2 60 rfl) rfl
theorem q337 : (Jvm.Cond.lays "java/lang/Throwable" "java/lang/Throwable" "detailMessage" "Ljava/lang/String;") ∈ lw_all := lw_g (lw_at lw_m2 62 rfl) rfl
theorem q339 : (Jvm.Cond.lays "java/lang/Throwable" "java/lang/Throwable" "backtrace" "Ljava/lang/Object;") ∈ lw_all := lw_g (lw_at lw_m2 64 rfl) rfl
theorem q340 : (Jvm.Cond.fieldLink "java/lang/Throwable" (198 : Nat) "java/lang/Throwable" "backtrace" "Ljava/lang/Object;") ∈ lw_all := lw_g (lw_at lw_m2 65 rfl) rfl
theorem q341 : (Jvm.Cond.superclass "java/lang/Throwable" "java/lang/Object") ∈ lw_all := lw_g (lw_at lw_m2 66 rfl) rfl
theorem q342 : (Jvm.Cond.instanceMethod ({ cls := "java/lang/Throwable", name := "<init>", desc := "()V" } : Jvm.MethodName)) ∈ lw_all := lw_g (lw_at lw_m2 67 rfl) rfl
theorem q343 : (Jvm.Cond.code ({ cls := "java/lang/Throwable", name := "<init>", desc := "()V" } : Jvm.MethodName) prog_37_method_1_code (1 : Nat) (Option.none : Option Jvm.ClassFile.FieldType)) ∈ lw_all := lw_g (lw_at lw_m2 68 rfl) rfl
theorem q344 : (Jvm.Cond.methodLink "java/lang/Throwable" (1 : Nat) ({ cls := "java/lang/Object", name := "<init>", desc := "()V" } : Jvm.MethodName)) ∈ lw_all := lw_g (lw_at lw_m2 69 rfl) rfl
theorem q345 : (Jvm.Cond.fieldLink "java/lang/Throwable" (13 : Nat) "java/lang/Throwable" "UNASSIGNED_STACK" "[Ljava/lang/StackTraceElement;") ∈ lw_all := lw_g (lw_at lw_m2 70 rfl) rfl
theorem q346 : (Jvm.Cond.laysStatic "java/lang/Throwable" "UNASSIGNED_STACK" "[Ljava/lang/StackTraceElement;") ∈ lw_tbl := lw_at lw_m2 71 rfl
theorem q347 : (Jvm.Cond.fieldLink "java/lang/Throwable" (20 : Nat) "java/lang/Throwable" "SUPPRESSED_SENTINEL" "Ljava/util/List;") ∈ lw_all := lw_g (lw_at lw_m2 72 rfl) rfl
theorem q348 : (Jvm.Cond.laysStatic "java/lang/Throwable" "SUPPRESSED_SENTINEL" "Ljava/util/List;") ∈ lw_tbl := lw_at lw_m2 73 rfl
theorem q349 : (Jvm.Cond.methodLink "java/lang/Throwable" (27 : Nat) ({ cls := "java/lang/Throwable", name := "fillInStackTrace", desc := "()Ljava/lang/Throwable;" } : Jvm.MethodName)) ∈ lw_all := lw_g (lw_at lw_m2 74 rfl) rfl
theorem q350 : (Jvm.Cond.instanceMethod ({ cls := "java/lang/Throwable", name := "fillInStackTrace", desc := "()Ljava/lang/Throwable;" } : Jvm.MethodName)) ∈ lw_all := lw_g (lw_at lw_m2 75 rfl) rfl
theorem q351 : (Jvm.Cond.sameMethod "java/lang/Throwable" "java/lang/Throwable" "fillInStackTrace" "()Ljava/lang/Throwable;") ∈ lw_all := lw_g (lw_at lw_m2 76 rfl) rfl
theorem q355 : (Jvm.Cond.codeSync ({ cls := "java/lang/Throwable", name := "fillInStackTrace", desc := "()Ljava/lang/Throwable;" } : Jvm.MethodName) prog_37_method_18_code (1 : Nat) (Option.some (Jvm.ClassFile.FieldType.object "java/lang/Throwable"))) ∈ lw_all := lw_g (lw_at lw_m2 80 rfl) rfl
theorem q356 : (Jvm.Cond.methodLink "java/lang/Throwable" (202 : Nat) ({ cls := "java/lang/Throwable", name := "fillInStackTrace", desc := "(I)Ljava/lang/Throwable;" } : Jvm.MethodName)) ∈ lw_all := lw_g (lw_at lw_m2 81 rfl) rfl
theorem q357 : (Jvm.Cond.privateMethod ({ cls := "java/lang/Throwable", name := "fillInStackTrace", desc := "(I)Ljava/lang/Throwable;" } : Jvm.MethodName)) ∈ lw_tbl := lw_at lw_m2 82 rfl
theorem q358 : (Jvm.Cond.instanceMethod ({ cls := "java/lang/Throwable", name := "fillInStackTrace", desc := "(I)Ljava/lang/Throwable;" } : Jvm.MethodName)) ∈ lw_all := lw_g (lw_at lw_m2 83 rfl) rfl
theorem q359 : (Jvm.Cond.instantiable "java/lang/Throwable" (6 : Nat)) ∈ lw_all := lw_g (lw_at lw_m2 84 rfl) rfl
theorem q360 : (Jvm.Cond.native ({ cls := "java/lang/Throwable", name := "fillInStackTrace", desc := "(I)Ljava/lang/Throwable;" } : Jvm.MethodName)) ∈ lw_all := lw_g (lw_at lw_m2 85 rfl) rfl
theorem q371 : (Jvm.Cond.fieldLink "java/lang/Throwable" (198 : Nat) "java/lang/Throwable" "backtrace" "Ljava/lang/Object;") ∈ lw_all := lw_g (lw_at lw_m2 96 rfl) rfl
theorem q372 : (Jvm.Cond.fieldLink "java/lang/Throwable" (31 : Nat) "java/lang/Throwable" "detailMessage" "Ljava/lang/String;") ∈ lw_all := lw_g (lw_at lw_m2 97 rfl) rfl
theorem q373 : (Jvm.Cond.fieldLink "java/lang/Throwable" (7 : Nat) "java/lang/Throwable" "cause" "Ljava/lang/Throwable;") ∈ lw_all := lw_g (lw_at lw_m2 98 rfl) rfl
theorem q374 : (Jvm.Cond.fieldLink "java/lang/Throwable" (17 : Nat) "java/lang/Throwable" "stackTrace" "[Ljava/lang/StackTraceElement;") ∈ lw_all := lw_g (lw_at lw_m2 99 rfl) rfl
theorem q375 : (Jvm.Cond.fieldLink "java/lang/Throwable" (24 : Nat) "java/lang/Throwable" "suppressedExceptions" "Ljava/util/List;") ∈ lw_all := lw_g (lw_at lw_m2 100 rfl) rfl
theorem q376 : (Jvm.Cond.soleField "java/lang/Throwable" "backtrace") ∈ lw_all := lw_g (lw_at lw_m2 101 rfl) rfl
theorem q377 : (Jvm.Cond.soleField "java/lang/Throwable" "detailMessage") ∈ lw_all := lw_g (lw_at lw_m2 102 rfl) rfl
theorem q378 : (Jvm.Cond.soleField "java/lang/Throwable" "cause") ∈ lw_all := lw_g (lw_at lw_m2 103 rfl) rfl
theorem q379 : (Jvm.Cond.soleField "java/lang/Throwable" "stackTrace") ∈ lw_all := lw_g (lw_at lw_m2 104 rfl) rfl
theorem q381 : (Jvm.Cond.soleField "java/lang/Throwable" "depth") ∈ lw_all := lw_g (lw_at lw_m2 106 rfl) rfl
theorem q382 : (Jvm.Cond.soleField "java/lang/Throwable" "suppressedExceptions") ∈ lw_all := lw_g (lw_at lw_m2 107 rfl) rfl
theorem q649 : (Jvm.Cond.instanceMethod ({ cls := "java/lang/Throwable", name := "<init>", desc := "(Ljava/lang/String;)V" } : Jvm.MethodName)) ∈ lw_all := lw_g (lw_at lw_m3 134 rfl) rfl
theorem q650 : (Jvm.Cond.code ({ cls := "java/lang/Throwable", name := "<init>", desc := "(Ljava/lang/String;)V" } : Jvm.MethodName) prog_37_method_2_code (2 : Nat) (Option.none : Option Jvm.ClassFile.FieldType)) ∈ lw_all := lw_g (lw_at lw_m3 135 rfl) rfl
theorem q1769 : (Jvm.Cond.sameMethod "java/lang/Throwable" "java/lang/Throwable" "fillInStackTrace" "(I)Ljava/lang/Throwable;") ∈ lw_all := lw_g (lw_at lw_m8 54 rfl) rfl
theorem q1806 : (Jvm.Cond.castable "java/lang/Throwable" "java/lang/Object") ∈ lw_tbl := lw_at lw_m8 91 rfl
theorem in_J5 : ∀ w ∈ wsJ50, w ∈ lw_all := lw_in wsJ50 [331, 333, 335, 337, 339] (by decide +kernel) (by decide +kernel)

/-! java/lang/Exception -/
set_option maxRecDepth 100000
def RJ6 : String := "java/lang/Exception"
theorem q48 : (Jvm.Cond.initialized "java/lang/Exception") ∈ lw_all := lw_g (lw_at lw_m1 13 rfl) rfl
theorem q324 : (Jvm.Cond.declares ({ cls := "java/lang/Exception", name := "<init>", desc := "()V" } : Jvm.MethodName)) ∈ lw_tbl := lw_at lw_m2 49 rfl
theorem q325 : (Jvm.Cond.declares ({ cls := "java/lang/Exception", name := "<init>", desc := "(Ljava/lang/String;)V" } : Jvm.MethodName)) ∈ lw_tbl := lw_at lw_m2 50 rfl
theorem q368 : (Jvm.Cond.instanceMethod ({ cls := "java/lang/Exception", name := "<init>", desc := "()V" } : Jvm.MethodName)) ∈ lw_all := lw_g (lw_at lw_m2 93 rfl) rfl
theorem q369 : (Jvm.Cond.code ({ cls := "java/lang/Exception", name := "<init>", desc := "()V" } : Jvm.MethodName) prog_21_method_1_code (1 : Nat) (Option.none : Option Jvm.ClassFile.FieldType)) ∈ lw_all := lw_g (lw_at lw_m2 94 rfl) rfl
theorem q370 : (Jvm.Cond.methodLink "java/lang/Exception" (1 : Nat) ({ cls := "java/lang/Throwable", name := "<init>", desc := "()V" } : Jvm.MethodName)) ∈ lw_all := lw_g (lw_at lw_m2 95 rfl) rfl
theorem q646 : (Jvm.Cond.instanceMethod ({ cls := "java/lang/Exception", name := "<init>", desc := "(Ljava/lang/String;)V" } : Jvm.MethodName)) ∈ lw_all := lw_g (lw_at lw_m3 131 rfl) rfl
theorem q647 : (Jvm.Cond.code ({ cls := "java/lang/Exception", name := "<init>", desc := "(Ljava/lang/String;)V" } : Jvm.MethodName) prog_21_method_2_code (2 : Nat) (Option.none : Option Jvm.ClassFile.FieldType)) ∈ lw_all := lw_g (lw_at lw_m3 132 rfl) rfl
theorem q648 : (Jvm.Cond.methodLink "java/lang/Exception" (7 : Nat) ({ cls := "java/lang/Throwable", name := "<init>", desc := "(Ljava/lang/String;)V" } : Jvm.MethodName)) ∈ lw_all := lw_g (lw_at lw_m3 133 rfl) rfl

/-! java/lang/RuntimeException -/
set_option maxRecDepth 100000
def RJ7 : String := "java/lang/RuntimeException"
theorem q49 : (Jvm.Cond.initialized "java/lang/RuntimeException") ∈ lw_all := lw_g (lw_at lw_m1 14 rfl) rfl
theorem q322 : (Jvm.Cond.declares ({ cls := "java/lang/RuntimeException", name := "<init>", desc := "()V" } : Jvm.MethodName)) ∈ lw_tbl := lw_at lw_m2 47 rfl
theorem q323 : (Jvm.Cond.declares ({ cls := "java/lang/RuntimeException", name := "<init>", desc := "(Ljava/lang/String;)V" } : Jvm.MethodName)) ∈ lw_tbl := lw_at lw_m2 48 rfl
theorem q365 : (Jvm.Cond.instanceMethod ({ cls := "java/lang/RuntimeException", name := "<init>", desc := "()V" } : Jvm.MethodName)) ∈ lw_all := lw_g (lw_at lw_m2 90 rfl) rfl
theorem q366 : (Jvm.Cond.code ({ cls := "java/lang/RuntimeException", name := "<init>", desc := "()V" } : Jvm.MethodName) prog_31_method_1_code (1 : Nat) (Option.none : Option Jvm.ClassFile.FieldType)) ∈ lw_all := lw_g (lw_at lw_m2 91 rfl) rfl
theorem q367 : (Jvm.Cond.methodLink "java/lang/RuntimeException" (1 : Nat) ({ cls := "java/lang/Exception", name := "<init>", desc := "()V" } : Jvm.MethodName)) ∈ lw_all := lw_g (lw_at lw_m2 92 rfl) rfl
theorem q643 : (Jvm.Cond.instanceMethod ({ cls := "java/lang/RuntimeException", name := "<init>", desc := "(Ljava/lang/String;)V" } : Jvm.MethodName)) ∈ lw_all := lw_g (lw_at lw_m3 128 rfl) rfl
theorem q644 : (Jvm.Cond.code ({ cls := "java/lang/RuntimeException", name := "<init>", desc := "(Ljava/lang/String;)V" } : Jvm.MethodName) prog_31_method_2_code (2 : Nat) (Option.none : Option Jvm.ClassFile.FieldType)) ∈ lw_all := lw_g (lw_at lw_m3 129 rfl) rfl
theorem q645 : (Jvm.Cond.methodLink "java/lang/RuntimeException" (7 : Nat) ({ cls := "java/lang/Exception", name := "<init>", desc := "(Ljava/lang/String;)V" } : Jvm.MethodName)) ∈ lw_all := lw_g (lw_at lw_m3 130 rfl) rfl

/-! java/lang/IllegalArgumentException -/
set_option maxRecDepth 100000
def RJ8 : String := "java/lang/IllegalArgumentException"
def TJ8 : u_T := fun k => match k with
  | 0 => ("java/lang/Throwable", "cause", "Ljava/lang/Throwable;", false)
  | 1 => ("java/lang/Throwable", "stackTrace", "[Ljava/lang/StackTraceElement;", false)
  | 2 => ("java/lang/Throwable", "suppressedExceptions", "Ljava/util/List;", false)
  | 3 => ("java/lang/Throwable", "detailMessage", "Ljava/lang/String;", false)
  | 4 => ("java/lang/Throwable", "backtrace", "Ljava/lang/Object;", false)
  | _ => ("java/lang/Throwable", "depth", "I", false)
def tyJ8 : Nat → FieldType := fun k => match k with
  | 0 => .object "java/lang/Throwable"
  | 1 => .array (.object "java/lang/StackTraceElement")
  | 2 => .object "java/util/List"
  | 3 => .object "java/lang/String"
  | 4 => .object "java/lang/Object"
  | _ => .int
abbrev wsJ80 : List Cond := u_ws RJ8 TJ8 6
theorem nmJ8 : ∀ a, a < 6 → ∀ b, b < 6 → a ≠ b → (TJ8 a).2.1 ≠ (TJ8 b).2.1 := by decide +kernel
theorem tyJ8_ok : ∀ k, k < 6 → parseFieldDescriptor (TJ8 k).2.2.1 = some (tyJ8 k) := by decide +kernel
theorem q50 : (Jvm.Cond.initialized "java/lang/IllegalArgumentException") ∈ lw_all := lw_g (lw_at lw_m1 15 rfl) rfl
theorem q320 : (Jvm.Cond.instantiable "java/lang/IllegalArgumentException" (6 : Nat)) ∈ lw_all := lw_g (lw_at lw_m2 45 rfl) rfl
theorem q321 : (Jvm.Cond.castable "java/lang/IllegalArgumentException" "java/lang/IllegalArgumentException") ∈ lw_tbl := lw_at lw_m2 46 rfl
theorem q328 : (Jvm.Cond.selects "java/lang/IllegalArgumentException" ({ cls := "java/lang/Throwable", name := "fillInStackTrace", desc := "(I)Ljava/lang/Throwable;" } : Jvm.MethodName) ({ cls := "java/lang/Throwable", name := "fillInStackTrace", desc := "(I)Ljava/lang/Throwable;" } : Jvm.MethodName)) ∈ lw_all := lw_g (lw_at lw_m2 53 rfl) rfl
theorem q329 : (Jvm.Cond.selects "java/lang/IllegalArgumentException" ({ cls := "java/lang/Throwable", name := "fillInStackTrace", desc := "()Ljava/lang/Throwable;" } : Jvm.MethodName) ({ cls := "java/lang/Throwable", name := "fillInStackTrace", desc := "()Ljava/lang/Throwable;" } : Jvm.MethodName)) ∈ lw_all := lw_g (lw_at lw_m2 54 rfl) rfl
theorem q330 : (Jvm.Cond.lays "java/lang/IllegalArgumentException" "java/lang/Throwable" "cause" "Ljava/lang/Throwable;") ∈ lw_all := lw_g (lw_at lw_m2 55 rfl) rfl
theorem q332 : (Jvm.Cond.lays "java/lang/IllegalArgumentException" "java/lang/Throwable" "stackTrace" "[Ljava/lang/StackTraceElement;") ∈ lw_all := lw_g (lw_at lw_m2 57 rfl) rfl
theorem q334 : (Jvm.Cond.lays "java/lang/IllegalArgumentException" "java/lang/Throwable" "suppressedExceptions" "Ljava/util/List;") ∈ lw_all := lw_g (lw_at lw_m2 59 rfl) rfl
theorem q336 : (Jvm.Cond.lays "java/lang/IllegalArgumentException" "java/lang/Throwable" "detailMessage" "Ljava/lang/String;") ∈ lw_all := lw_g (lw_at lw_m2 61 rfl) rfl
theorem q338 : (Jvm.Cond.lays "java/lang/IllegalArgumentException" "java/lang/Throwable" "backtrace" "Ljava/lang/Object;") ∈ lw_all := lw_g (lw_at lw_m2 63 rfl) rfl
theorem q362 : (Jvm.Cond.instanceMethod ({ cls := "java/lang/IllegalArgumentException", name := "<init>", desc := "()V" } : Jvm.MethodName)) ∈ lw_all := lw_g (lw_at lw_m2 87 rfl) rfl
theorem q363 : (Jvm.Cond.code ({ cls := "java/lang/IllegalArgumentException", name := "<init>", desc := "()V" } : Jvm.MethodName) prog_22_method_1_code (1 : Nat) (Option.none : Option Jvm.ClassFile.FieldType)) ∈ lw_all := lw_g (lw_at lw_m2 88 rfl) rfl
theorem q364 : (Jvm.Cond.methodLink "java/lang/IllegalArgumentException" (1 : Nat) ({ cls := "java/lang/RuntimeException", name := "<init>", desc := "()V" } : Jvm.MethodName)) ∈ lw_all := lw_g (lw_at lw_m2 89 rfl) rfl
theorem q380 : (Jvm.Cond.lays "java/lang/IllegalArgumentException" "java/lang/Throwable" "depth" "I") ∈ lw_all := lw_g (lw_at lw_m2 105 rfl) rfl
theorem q383 : (Jvm.Cond.superclass "java/lang/IllegalArgumentException" "java/lang/RuntimeException") ∈ lw_all := lw_g (lw_at lw_m2 108 rfl) rfl
theorem q640 : (Jvm.Cond.instanceMethod ({ cls := "java/lang/IllegalArgumentException", name := "<init>", desc := "(Ljava/lang/String;)V" } : Jvm.MethodName)) ∈ lw_all := lw_g (lw_at lw_m3 125 rfl) rfl
theorem q641 : (Jvm.Cond.code ({ cls := "java/lang/IllegalArgumentException", name := "<init>", desc := "(Ljava/lang/String;)V" } : Jvm.MethodName) prog_22_method_2_code (2 : Nat) (Option.none : Option Jvm.ClassFile.FieldType)) ∈ lw_all := lw_g (lw_at lw_m3 126 rfl) rfl
theorem q642 : (Jvm.Cond.methodLink "java/lang/IllegalArgumentException" (7 : Nat) ({ cls := "java/lang/RuntimeException", name := "<init>", desc := "(Ljava/lang/String;)V" } : Jvm.MethodName)) ∈ lw_all := lw_g (lw_at lw_m3 127 rfl) rfl
theorem q778 : (Jvm.Cond.selects "java/lang/IllegalArgumentException" ({ cls := "java/lang/Object", name := "getClass", desc := "()Ljava/lang/Class;" } : Jvm.MethodName) ({ cls := "java/lang/Object", name := "getClass", desc := "()Ljava/lang/Class;" } : Jvm.MethodName)) ∈ lw_all := lw_g (lw_at lw_m4 23 rfl) rfl
theorem q1790 : (Jvm.Cond.castable "java/lang/IllegalArgumentException" "java/lang/Object") ∈ lw_tbl := lw_at lw_m8 75 rfl
theorem in_J8 : ∀ w ∈ wsJ80, w ∈ lw_all := lw_in wsJ80 [330, 332, 334, 336, 338, 380] (by decide +kernel) (by decide +kernel)

/-! java/lang/IllegalStateException -/
set_option maxRecDepth 100000
def RJ10 : String := "java/lang/IllegalStateException"
def TJ10 : u_T := fun k => match k with
  | 0 => ("java/lang/Throwable", "cause", "Ljava/lang/Throwable;", false)
  | 1 => ("java/lang/Throwable", "stackTrace", "[Ljava/lang/StackTraceElement;", false)
  | 2 => ("java/lang/Throwable", "suppressedExceptions", "Ljava/util/List;", false)
  | 3 => ("java/lang/Throwable", "detailMessage", "Ljava/lang/String;", false)
  | 4 => ("java/lang/Throwable", "backtrace", "Ljava/lang/Object;", false)
  | _ => ("java/lang/Throwable", "depth", "I", false)
def tyJ10 : Nat → FieldType := fun k => match k with
  | 0 => .object "java/lang/Throwable"
  | 1 => .array (.object "java/lang/StackTraceElement")
  | 2 => .object "java/util/List"
  | 3 => .object "java/lang/String"
  | 4 => .object "java/lang/Object"
  | _ => .int
abbrev wsJ100 : List Cond := u_ws RJ10 TJ10 6
theorem nmJ10 : ∀ a, a < 6 → ∀ b, b < 6 → a ≠ b → (TJ10 a).2.1 ≠ (TJ10 b).2.1 := by decide +kernel
theorem tyJ10_ok : ∀ k, k < 6 → parseFieldDescriptor (TJ10 k).2.2.1 = some (tyJ10 k) := by decide +kernel
theorem q52 : (Jvm.Cond.initialized "java/lang/IllegalStateException") ∈ lw_all := lw_g (lw_at lw_m1 17 rfl) rfl
theorem q353 : (Jvm.Cond.selects "java/lang/IllegalStateException" ({ cls := "java/lang/Throwable", name := "fillInStackTrace", desc := "()Ljava/lang/Throwable;" } : Jvm.MethodName) ({ cls := "java/lang/Throwable", name := "fillInStackTrace", desc := "()Ljava/lang/Throwable;" } : Jvm.MethodName)) ∈ lw_all := lw_g (lw_at lw_m2 78 rfl) rfl
theorem q398 : (Jvm.Cond.instantiable "java/lang/IllegalStateException" (6 : Nat)) ∈ lw_all := lw_g (lw_at lw_m2 123 rfl) rfl
theorem q399 : (Jvm.Cond.castable "java/lang/IllegalStateException" "java/lang/IllegalStateException") ∈ lw_tbl := lw_at lw_m2 124 rfl
theorem q400 : (Jvm.Cond.selects "java/lang/IllegalStateException" ({ cls := "java/lang/Throwable", name := "fillInStackTrace", desc := "(I)Ljava/lang/Throwable;" } : Jvm.MethodName) ({ cls := "java/lang/Throwable", name := "fillInStackTrace", desc := "(I)Ljava/lang/Throwable;" } : Jvm.MethodName)) ∈ lw_all := lw_g (lw_at lw_m2 125 rfl) rfl
theorem q401 : (Jvm.Cond.lays "java/lang/IllegalStateException" "java/lang/Throwable" "cause" "Ljava/lang/Throwable;") ∈ lw_all := lw_g (lw_at lw_m2 126 rfl) rfl
theorem q402 : (Jvm.Cond.lays "java/lang/IllegalStateException" "java/lang/Throwable" "stackTrace" "[Ljava/lang/StackTraceElement;") ∈ lw_all := lw_g (lw_at lw_m2 127 rfl) rfl
theorem q403 : (Jvm.Cond.lays "java/lang/IllegalStateException" "java/lang/Throwable" "suppressedExceptions" "Ljava/util/List;") ∈ lw_all := lw_g (lw_at lw_m2 128 rfl) rfl
theorem q404 : (Jvm.Cond.lays "java/lang/IllegalStateException" "java/lang/Throwable" "detailMessage" "Ljava/lang/String;") ∈ lw_all := lw_g (lw_at lw_m2 129 rfl) rfl
theorem q405 : (Jvm.Cond.lays "java/lang/IllegalStateException" "java/lang/Throwable" "backtrace" "Ljava/lang/Object;") ∈ lw_all := lw_g (lw_at lw_m2 130 rfl) rfl
theorem q407 : (Jvm.Cond.instanceMethod ({ cls := "java/lang/IllegalStateException", name := "<init>", desc := "()V" } : Jvm.MethodName)) ∈ lw_all := lw_g (lw_at lw_m2 132 rfl) rfl
theorem q408 : (Jvm.Cond.code ({ cls := "java/lang/IllegalStateException", name := "<init>", desc := "()V" } : Jvm.MethodName) prog_23_method_1_code (1 : Nat) (Option.none : Option Jvm.ClassFile.FieldType)) ∈ lw_all := lw_g (lw_at lw_m2 133 rfl) rfl
theorem q409 : (Jvm.Cond.methodLink "java/lang/IllegalStateException" (1 : Nat) ({ cls := "java/lang/RuntimeException", name := "<init>", desc := "()V" } : Jvm.MethodName)) ∈ lw_all := lw_g (lw_at lw_m2 134 rfl) rfl
theorem q410 : (Jvm.Cond.lays "java/lang/IllegalStateException" "java/lang/Throwable" "depth" "I") ∈ lw_all := lw_g (lw_at lw_m2 135 rfl) rfl
theorem q411 : (Jvm.Cond.superclass "java/lang/IllegalStateException" "java/lang/RuntimeException") ∈ lw_all := lw_g (lw_at lw_m2 136 rfl) rfl
theorem q779 : (Jvm.Cond.selects "java/lang/IllegalStateException" ({ cls := "java/lang/Object", name := "getClass", desc := "()Ljava/lang/Class;" } : Jvm.MethodName) ({ cls := "java/lang/Object", name := "getClass", desc := "()Ljava/lang/Class;" } : Jvm.MethodName)) ∈ lw_all := lw_g (lw_at lw_m4 24 rfl) rfl
theorem q1791 : (Jvm.Cond.castable "java/lang/IllegalStateException" "java/lang/Object") ∈ lw_tbl := lw_at lw_m8 76 rfl
theorem in_J10 : ∀ w ∈ wsJ100, w ∈ lw_all := lw_in wsJ100 [401, 402, 403, 404, 405, 410] (by decide +kernel) (by decide +kernel)

/-! java/lang/IndexOutOfBoundsException -/
set_option maxRecDepth 100000
def RJ20 : String := "java/lang/IndexOutOfBoundsException"
def TJ20 : u_T := fun k => match k with
  | 0 => ("java/lang/Throwable", "cause", "Ljava/lang/Throwable;", false)
  | 1 => ("java/lang/Throwable", "stackTrace", "[Ljava/lang/StackTraceElement;", false)
  | 2 => ("java/lang/Throwable", "suppressedExceptions", "Ljava/util/List;", false)
  | 3 => ("java/lang/Throwable", "detailMessage", "Ljava/lang/String;", false)
  | 4 => ("java/lang/Throwable", "backtrace", "Ljava/lang/Object;", false)
  | _ => ("java/lang/Throwable", "depth", "I", false)
def tyJ20 : Nat → FieldType := fun k => match k with
  | 0 => .object "java/lang/Throwable"
  | 1 => .array (.object "java/lang/StackTraceElement")
  | 2 => .object "java/util/List"
  | 3 => .object "java/lang/String"
  | 4 => .object "java/lang/Object"
  | _ => .int
abbrev wsJ200 : List Cond := u_ws RJ20 TJ20 6
theorem nmJ20 : ∀ a, a < 6 → ∀ b, b < 6 → a ≠ b → (TJ20 a).2.1 ≠ (TJ20 b).2.1 := by decide +kernel
theorem tyJ20_ok : ∀ k, k < 6 → parseFieldDescriptor (TJ20 k).2.2.1 = some (tyJ20 k) := by decide +kernel
theorem q64 : (Jvm.Cond.initialized "java/lang/IndexOutOfBoundsException") ∈ lw_all := lw_g (lw_at lw_m1 29 rfl) rfl
theorem q354 : (Jvm.Cond.selects "java/lang/IndexOutOfBoundsException" ({ cls := "java/lang/Throwable", name := "fillInStackTrace", desc := "()Ljava/lang/Throwable;" } : Jvm.MethodName) ({ cls := "java/lang/Throwable", name := "fillInStackTrace", desc := "()Ljava/lang/Throwable;" } : Jvm.MethodName)) ∈ lw_all := lw_g (lw_at lw_m2 79 rfl) rfl
theorem q683 : (Jvm.Cond.instanceMethod ({ cls := "java/lang/IndexOutOfBoundsException", name := "<init>", desc := "(Ljava/lang/String;)V" } : Jvm.MethodName)) ∈ lw_all := lw_g (lw_at lw_m3 168 rfl) rfl
theorem q684 : (Jvm.Cond.code ({ cls := "java/lang/IndexOutOfBoundsException", name := "<init>", desc := "(Ljava/lang/String;)V" } : Jvm.MethodName) prog_24_method_2_code (2 : Nat) (Option.none : Option Jvm.ClassFile.FieldType)) ∈ lw_all := lw_g (lw_at lw_m3 169 rfl) rfl
theorem q685 : (Jvm.Cond.methodLink "java/lang/IndexOutOfBoundsException" (7 : Nat) ({ cls := "java/lang/RuntimeException", name := "<init>", desc := "(Ljava/lang/String;)V" } : Jvm.MethodName)) ∈ lw_all := lw_g (lw_at lw_m3 170 rfl) rfl
theorem q694 : (Jvm.Cond.declares ({ cls := "java/lang/IndexOutOfBoundsException", name := "<init>", desc := "()V" } : Jvm.MethodName)) ∈ lw_tbl := lw_at lw_m3 179 rfl
theorem q695 : (Jvm.Cond.declares ({ cls := "java/lang/IndexOutOfBoundsException", name := "<init>", desc := "(Ljava/lang/String;)V" } : Jvm.MethodName)) ∈ lw_tbl := lw_at lw_m3 180 rfl
theorem q705 : (Jvm.Cond.instantiable "java/lang/IndexOutOfBoundsException" (6 : Nat)) ∈ lw_all := lw_g (lw_at lw_m3 190 rfl) rfl
theorem q706 : (Jvm.Cond.castable "java/lang/IndexOutOfBoundsException" "java/lang/IndexOutOfBoundsException") ∈ lw_tbl := lw_at lw_m3 191 rfl
theorem q707 : (Jvm.Cond.selects "java/lang/IndexOutOfBoundsException" ({ cls := "java/lang/Throwable", name := "fillInStackTrace", desc := "(I)Ljava/lang/Throwable;" } : Jvm.MethodName) ({ cls := "java/lang/Throwable", name := "fillInStackTrace", desc := "(I)Ljava/lang/Throwable;" } : Jvm.MethodName)) ∈ lw_all := lw_g (lw_at lw_m3 192 rfl) rfl
theorem q708 : (Jvm.Cond.lays "java/lang/IndexOutOfBoundsException" "java/lang/Throwable" "cause" "Ljava/lang/Throwable;") ∈ lw_all := lw_g (lw_at lw_m3 193 rfl) rfl
theorem q709 : (Jvm.Cond.lays "java/lang/IndexOutOfBoundsException" "java/lang/Throwable" "stackTrace" "[Ljava/lang/StackTraceElement;") ∈ lw_all := lw_g (lw_at lw_m3 194 rfl) rfl
theorem q710 : (Jvm.Cond.lays "java/lang/IndexOutOfBoundsException" "java/lang/Throwable" "suppressedExceptions" "Ljava/util/List;") ∈ lw_all := lw_g (lw_at lw_m3 195 rfl) rfl
theorem q711 : (Jvm.Cond.lays "java/lang/IndexOutOfBoundsException" "java/lang/Throwable" "detailMessage" "Ljava/lang/String;") ∈ lw_all := lw_g (lw_at lw_m3 196 rfl) rfl
theorem q712 : (Jvm.Cond.lays "java/lang/IndexOutOfBoundsException" "java/lang/Throwable" "backtrace" "Ljava/lang/Object;") ∈ lw_all := lw_g (lw_at lw_m3 197 rfl) rfl
theorem q714 : (Jvm.Cond.instanceMethod ({ cls := "java/lang/IndexOutOfBoundsException", name := "<init>", desc := "()V" } : Jvm.MethodName)) ∈ lw_all := lw_g (lw_at lw_m3 199 rfl) rfl
theorem q715 : (Jvm.Cond.code ({ cls := "java/lang/IndexOutOfBoundsException", name := "<init>", desc := "()V" } : Jvm.MethodName) prog_24_method_1_code (1 : Nat) (Option.none : Option Jvm.ClassFile.FieldType)) ∈ lw_all := lw_g (lw_at lw_m3 200 rfl) rfl
theorem q716 : (Jvm.Cond.methodLink "java/lang/IndexOutOfBoundsException" (1 : Nat) ({ cls := "java/lang/RuntimeException", name := "<init>", desc := "()V" } : Jvm.MethodName)) ∈ lw_all := lw_g (lw_at lw_m3 201 rfl) rfl
theorem q717 : (Jvm.Cond.lays "java/lang/IndexOutOfBoundsException" "java/lang/Throwable" "depth" "I") ∈ lw_all := lw_g (lw_at lw_m3 202 rfl) rfl
theorem q718 : (Jvm.Cond.superclass "java/lang/IndexOutOfBoundsException" "java/lang/RuntimeException") ∈ lw_all := lw_g (lw_at lw_m3 203 rfl) rfl
theorem q780 : (Jvm.Cond.selects "java/lang/IndexOutOfBoundsException" ({ cls := "java/lang/Object", name := "getClass", desc := "()Ljava/lang/Class;" } : Jvm.MethodName) ({ cls := "java/lang/Object", name := "getClass", desc := "()Ljava/lang/Class;" } : Jvm.MethodName)) ∈ lw_all := lw_g (lw_at lw_m4 25 rfl) rfl
theorem q1795 : (Jvm.Cond.castable "java/lang/IndexOutOfBoundsException" "java/lang/Object") ∈ lw_tbl := lw_at lw_m8 80 rfl
theorem in_J20 : ∀ w ∈ wsJ200, w ∈ lw_all := lw_in wsJ200 [708, 709, 710, 711, 712, 717] (by decide +kernel) (by decide +kernel)

theorem q476 : (Jvm.Cond.sameMethod "[B" "java/lang/Object" "clone" "()Ljava/lang/Object;") ∈ lw_all := lw_g (lw_at lw_m2 201 rfl) rfl
set_option maxRecDepth 100000
theorem q479 : (Jvm.Cond.selects "[B" ({ cls := "[B", name := "clone", desc := "()Ljava/lang/Object;" } : Jvm.MethodName) ({ cls := "java/lang/Object", name := "clone", desc := "()Ljava/lang/Object;" } : Jvm.MethodName)) ∈ lw_all := lw_g (lw_at lw_m2 204 rfl) rfl
theorem q480 : (Jvm.Cond.castable "[B" "java/lang/Cloneable") ∈ lw_tbl := lw_at lw_m2 205 rfl
theorem q1812 : (Jvm.Cond.castable "[B" "java/lang/Object") ∈ lw_tbl := lw_at lw_m8 97 rfl

theorem q1811 : (Jvm.Cond.castable "[I" "java/lang/Object") ∈ lw_tbl := lw_at lw_m8 96 rfl
set_option maxRecDepth 100000

theorem q1815 : (Jvm.Cond.castable "[J" "java/lang/Object") ∈ lw_tbl := lw_at lw_m8 100 rfl
set_option maxRecDepth 100000

theorem q1807 : (Jvm.Cond.sameMethod "[Ljava/lang/Object;" "java/lang/Object" "getClass" "()Ljava/lang/Class;") ∈ lw_all := lw_g (lw_at lw_m8 92 rfl) rfl
set_option maxRecDepth 100000
theorem q1808 : (Jvm.Cond.selects "[Ljava/lang/Object;" ({ cls := "java/lang/Object", name := "getClass", desc := "()Ljava/lang/Class;" } : Jvm.MethodName) ({ cls := "java/lang/Object", name := "getClass", desc := "()Ljava/lang/Class;" } : Jvm.MethodName)) ∈ lw_all := lw_g (lw_at lw_m8 93 rfl) rfl
theorem q1813 : (Jvm.Cond.castable "[Ljava/lang/Object;" "java/lang/Object") ∈ lw_tbl := lw_at lw_m8 98 rfl

theorem q1816 : (Jvm.Cond.castable "[Z" "java/lang/Object") ∈ lw_tbl := lw_at lw_m8 101 rfl
set_option maxRecDepth 100000

theorem q1810 : (Jvm.Cond.castable "[[I" "java/lang/Object") ∈ lw_tbl := lw_at lw_m8 95 rfl
set_option maxRecDepth 100000

theorem q1814 : (Jvm.Cond.castable "[[J" "java/lang/Object") ∈ lw_tbl := lw_at lw_m8 99 rfl
set_option maxRecDepth 100000

theorem q1020 : (Jvm.Cond.interfaceMethod "java/lang/Comparable" "java/lang/Comparable" "compareTo" "(Ljava/lang/Object;)I") ∈ lw_tbl := lw_at lw_m5 25 rfl
set_option maxRecDepth 100000
theorem q1021 : (Jvm.Cond.declares ({ cls := "java/lang/Comparable", name := "compareTo", desc := "(Ljava/lang/Object;)I" } : Jvm.MethodName)) ∈ lw_tbl := lw_at lw_m5 26 rfl

theorem q62 : (Jvm.Cond.initialized "java/lang/Number") ∈ lw_all := lw_g (lw_at lw_m1 27 rfl) rfl
set_option maxRecDepth 100000

theorem q59 : (Jvm.Cond.initialized "java/lang/System") ∈ lw_all := lw_g (lw_at lw_m1 24 rfl) rfl
set_option maxRecDepth 100000
theorem q252 : (Jvm.Cond.static ({ cls := "java/lang/System", name := "arraycopy", desc := "(Ljava/lang/Object;ILjava/lang/Object;II)V" } : Jvm.MethodName)) ∈ lw_all := lw_g (lw_at lw_m1 217 rfl) rfl
theorem q253 : (Jvm.Cond.native ({ cls := "java/lang/System", name := "arraycopy", desc := "(Ljava/lang/Object;ILjava/lang/Object;II)V" } : Jvm.MethodName)) ∈ lw_all := lw_g (lw_at lw_m1 218 rfl) rfl

theorem q850 : (Jvm.Cond.interfaceMethod "java/util/Comparator" "java/util/Comparator" "compare" "(Ljava/lang/Object;Ljava/lang/Object;)I") ∈ lw_tbl := lw_at lw_m4 95 rfl
set_option maxRecDepth 100000
theorem q851 : (Jvm.Cond.declares ({ cls := "java/util/Comparator", name := "compare", desc := "(Ljava/lang/Object;Ljava/lang/Object;)I" } : Jvm.MethodName)) ∈ lw_tbl := lw_at lw_m4 96 rfl

theorem q288 : (Jvm.Cond.interfaceMethod "java/util/Iterator" "java/util/Iterator" "hasNext" "()Z") ∈ lw_tbl := lw_at lw_m2 13 rfl
set_option maxRecDepth 100000
theorem q289 : (Jvm.Cond.declares ({ cls := "java/util/Iterator", name := "hasNext", desc := "()Z" } : Jvm.MethodName)) ∈ lw_tbl := lw_at lw_m2 14 rfl
theorem q298 : (Jvm.Cond.interfaceMethod "java/util/Iterator" "java/util/Iterator" "next" "()Ljava/lang/Object;") ∈ lw_tbl := lw_at lw_m2 23 rfl
theorem q299 : (Jvm.Cond.declares ({ cls := "java/util/Iterator", name := "next", desc := "()Ljava/lang/Object;" } : Jvm.MethodName)) ∈ lw_tbl := lw_at lw_m2 24 rfl

theorem q215 : (Jvm.Cond.interfaceMethod "java/util/List" "java/util/List" "size" "()I") ∈ lw_tbl := lw_at lw_m1 180 rfl
set_option maxRecDepth 100000
theorem q216 : (Jvm.Cond.declares ({ cls := "java/util/List", name := "size", desc := "()I" } : Jvm.MethodName)) ∈ lw_tbl := lw_at lw_m1 181 rfl
theorem q225 : (Jvm.Cond.interfaceMethod "java/util/List" "java/util/List" "isEmpty" "()Z") ∈ lw_tbl := lw_at lw_m1 190 rfl
theorem q226 : (Jvm.Cond.declares ({ cls := "java/util/List", name := "isEmpty", desc := "()Z" } : Jvm.MethodName)) ∈ lw_tbl := lw_at lw_m1 191 rfl
theorem q234 : (Jvm.Cond.interfaceMethod "java/util/List" "java/util/List" "remove" "(I)Ljava/lang/Object;") ∈ lw_tbl := lw_at lw_m1 199 rfl
theorem q235 : (Jvm.Cond.declares ({ cls := "java/util/List", name := "remove", desc := "(I)Ljava/lang/Object;" } : Jvm.MethodName)) ∈ lw_tbl := lw_at lw_m1 200 rfl
theorem q260 : (Jvm.Cond.interfaceMethod "java/util/List" "java/util/List" "iterator" "()Ljava/util/Iterator;") ∈ lw_tbl := lw_at lw_m1 225 rfl
theorem q261 : (Jvm.Cond.declares ({ cls := "java/util/List", name := "iterator", desc := "()Ljava/util/Iterator;" } : Jvm.MethodName)) ∈ lw_tbl := lw_at lw_m1 226 rfl
theorem q741 : (Jvm.Cond.interfaceMethod "java/util/List" "java/util/List" "add" "(Ljava/lang/Object;)Z") ∈ lw_tbl := lw_at lw_m3 226 rfl
theorem q742 : (Jvm.Cond.declares ({ cls := "java/util/List", name := "add", desc := "(Ljava/lang/Object;)Z" } : Jvm.MethodName)) ∈ lw_tbl := lw_at lw_m3 227 rfl
theorem q1187 : (Jvm.Cond.interfaceMethod "java/util/List" "java/util/List" "get" "(I)Ljava/lang/Object;") ∈ lw_tbl := lw_at lw_m5 192 rfl
theorem q1188 : (Jvm.Cond.declares ({ cls := "java/util/List", name := "get", desc := "(I)Ljava/lang/Object;" } : Jvm.MethodName)) ∈ lw_tbl := lw_at lw_m5 193 rfl
theorem q1488 : (Jvm.Cond.interfaceMethod "java/util/List" "java/util/List" "add" "(ILjava/lang/Object;)V") ∈ lw_tbl := lw_at lw_m7 13 rfl
theorem q1489 : (Jvm.Cond.declares ({ cls := "java/util/List", name := "add", desc := "(ILjava/lang/Object;)V" } : Jvm.MethodName)) ∈ lw_tbl := lw_at lw_m7 14 rfl

theorem q72 : (Jvm.Cond.initialized "jdk/internal/misc/UnsafeConstants") ∈ lw_all := lw_g (lw_at lw_m1 37 rfl) rfl
set_option maxRecDepth 100000
theorem q925 : (Jvm.Cond.laysStatic "jdk/internal/misc/UnsafeConstants" "BIG_ENDIAN" "Z") ∈ lw_tbl := lw_at lw_m4 170 rfl

theorem q146 : (Jvm.Cond.arrayOver (Jvm.ClassFile.FieldType.array Jvm.ClassFile.FieldType.int)) ∈ lw_tbl := lw_at lw_m1 111 rfl
set_option maxRecDepth 100000
theorem q176 : (Jvm.Cond.arrayClass Jvm.ClassFile.FieldType.int) ∈ lw_all := lw_g (lw_at lw_m1 141 rfl) rfl
theorem q208 : (Jvm.Cond.arrayClass Jvm.ClassFile.FieldType.byte) ∈ lw_all := lw_g (lw_at lw_m1 173 rfl) rfl
theorem q794 : (Jvm.Cond.arrayOver (Jvm.ClassFile.FieldType.object "java/lang/Object")) ∈ lw_tbl := lw_at lw_m4 39 rfl
theorem q1310 : (Jvm.Cond.arrayOver (Jvm.ClassFile.FieldType.array Jvm.ClassFile.FieldType.long)) ∈ lw_tbl := lw_at lw_m6 75 rfl
theorem q1327 : (Jvm.Cond.arrayClass Jvm.ClassFile.FieldType.long) ∈ lw_all := lw_g (lw_at lw_m6 92 rfl) rfl
theorem q1627 : (Jvm.Cond.arrayClass Jvm.ClassFile.FieldType.boolean) ∈ lw_all := lw_g (lw_at lw_m7 152 rfl) rfl


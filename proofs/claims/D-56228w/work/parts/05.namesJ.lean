/-! java/util/AbstractCollection -/
set_option maxRecDepth 100000
def RJ0 : String := "java/util/AbstractCollection"
abbrev cJ0_init : ByteArray := prog_46_method_1_code
def yJ0_init : MethodName := ⟨RJ0, "<init>", "()V"⟩
theorem dJ0_init_0 : decode cJ0_init 0 = .ok (.aload_n 0, 1) := by decide +kernel
theorem dJ0_init_1 : decode cJ0_init 1 = .ok (.invokespecial 1, 3) := by decide +kernel
theorem dJ0_init_4 : decode cJ0_init 4 = .ok (.return_, 1) := by decide +kernel
theorem q89 : (Jvm.Cond.initialized "java/util/AbstractCollection") ∈ lw_all := lw_g (lw_at lw_m1 6 rfl) rfl
theorem q247 : (Jvm.Cond.instanceMethod ({ cls := "java/util/AbstractCollection", name := "<init>", desc := "()V" } : Jvm.MethodName)) ∈ lw_all := lw_g (lw_at lw_m1 164 rfl) rfl
theorem q248 : (Jvm.Cond.code ({ cls := "java/util/AbstractCollection", name := "<init>", desc := "()V" } : Jvm.MethodName) prog_46_method_1_code (1 : Nat) (Option.none : Option Jvm.ClassFile.FieldType)) ∈ lw_all := lw_g (lw_at lw_m1 165 rfl) rfl
theorem q249 : (Jvm.Cond.methodLink "java/util/AbstractCollection" (1 : Nat) ({ cls := "java/lang/Object", name := "<init>", desc := "()V" } : Jvm.MethodName)) ∈ lw_all := lw_g (lw_at lw_m1 166 rfl) rfl
theorem q1959 : (Jvm.Cond.declares ({ cls := "java/util/AbstractCollection", name := "size", desc := "()I" } : Jvm.MethodName)) ∈ lw_tbl := lw_at lw_m8 196 rfl
/-! java/util/ArrayDeque -/
set_option maxRecDepth 100000
def RJ1 : String := "java/util/ArrayDeque"
def TJ1 : u_T := fun k => match k with
  | 0 => ("java/util/ArrayDeque", "elements", "[Ljava/lang/Object;", false)
  | 1 => ("java/util/ArrayDeque", "head", "I", false)
  | _ => ("java/util/ArrayDeque", "tail", "I", false)
def tyJ1 : Nat → FieldType := fun k => match k with
  | 0 => .array (.object "java/lang/Object")
  | 1 => .int
  | _ => .int
abbrev wsJ10 : List Cond := u_ws RJ1 TJ1 3
theorem nmJ1 : ∀ a, a < 3 → ∀ b, b < 3 → a ≠ b → (TJ1 a).2.1 ≠ (TJ1 b).2.1 := by decide +kernel
theorem tyJ1_ok : ∀ k, k < 3 → parseFieldDescriptor (TJ1 k).2.2.1 = some (tyJ1 k) := by decide +kernel
abbrev cJ1_init : ByteArray := prog_51_method_3_code
def yJ1_init : MethodName := ⟨RJ1, "<init>", "()V"⟩
def dkwJ1_init_0 : List UInt8 := [42, 183, 0, 42, 42, 16, 17, 189, 0, 47, 181, 0, 3, 177]
abbrev dktJ1_init_0 : List UInt8 := dkwJ1_init_0 ++ []
theorem dksJ1_init_0 : cJ1_init.data.toList.drop 0 = dktJ1_init_0 := by decide +kernel
theorem dJ1_init_0 : decode cJ1_init 0 = .ok (.aload_n 0, 1) := dk_42 (dk_at dksJ1_init_0 0 rfl rfl)
theorem dJ1_init_1 : decode cJ1_init 1 = .ok (.invokespecial 42, 3) := dk_183 0 42 (dk_at dksJ1_init_0 1 rfl rfl)
theorem dJ1_init_4 : decode cJ1_init 4 = .ok (.aload_n 0, 1) := dk_42 (dk_at dksJ1_init_0 4 rfl rfl)
theorem dJ1_init_5 : decode cJ1_init 5 = .ok (.bipush 17, 2) := dk_16 17 (dk_at dksJ1_init_0 5 rfl rfl)
theorem dJ1_init_7 : decode cJ1_init 7 = .ok (.anewarray 47, 3) := dk_189 0 47 (dk_at dksJ1_init_0 7 rfl rfl)
theorem dJ1_init_10 : decode cJ1_init 10 = .ok (.putfield 3, 3) := dk_181 0 3 (dk_at dksJ1_init_0 10 rfl rfl)
theorem dJ1_init_13 : decode cJ1_init 13 = .ok (.return_, 1) := dk_177 (dk_at dksJ1_init_0 13 rfl rfl)
abbrev cJ1_addLast : ByteArray := prog_51_method_13_code
def yJ1_addLast : MethodName := ⟨RJ1, "addLast", "(Ljava/lang/Object;)V"⟩
def dkwJ1_addLast_2 : List UInt8 := [182, 0, 71, 177]
abbrev dktJ1_addLast_2 : List UInt8 := dkwJ1_addLast_2 ++ []
def dkwJ1_addLast_1 : List UInt8 := [42, 180, 0, 24, 42, 42, 180, 0, 20, 44, 190, 184, 0, 74, 90, 181, 0, 20, 160, 0, 8, 42, 4]
abbrev dktJ1_addLast_1 : List UInt8 := dkwJ1_addLast_1 ++ dktJ1_addLast_2
def dkwJ1_addLast_0 : List UInt8 := [43, 199, 0, 11, 187, 0, 65, 89, 183, 0, 67, 191, 42, 180, 0, 3, 77, 44, 42, 180, 0, 20, 43, 83]
abbrev dktJ1_addLast_0 : List UInt8 := dkwJ1_addLast_0 ++ dktJ1_addLast_1
theorem dksJ1_addLast_0 : cJ1_addLast.data.toList.drop 0 = dktJ1_addLast_0 := by decide +kernel
theorem dksJ1_addLast_1 : cJ1_addLast.data.toList.drop 24 = dktJ1_addLast_1 := dk_seg dksJ1_addLast_0 24 rfl rfl
theorem dksJ1_addLast_2 : cJ1_addLast.data.toList.drop 47 = dktJ1_addLast_2 := dk_seg dksJ1_addLast_1 23 rfl rfl
theorem dJ1_addLast_0 : decode cJ1_addLast 0 = .ok (.aload_n 1, 1) := dk_43 (dk_at dksJ1_addLast_0 0 rfl rfl)
theorem dJ1_addLast_1 : decode cJ1_addLast 1 = .ok (.ifnonnull 11, 3) := dk_199 0 11 (dk_at dksJ1_addLast_0 1 rfl rfl)
theorem dJ1_addLast_4 : decode cJ1_addLast 4 = .ok (.new 65, 3) := dk_187 0 65 (dk_at dksJ1_addLast_0 4 rfl rfl)
theorem dJ1_addLast_7 : decode cJ1_addLast 7 = .ok (.dup, 1) := dk_89 (dk_at dksJ1_addLast_0 7 rfl rfl)
theorem dJ1_addLast_8 : decode cJ1_addLast 8 = .ok (.invokespecial 67, 3) := dk_183 0 67 (dk_at dksJ1_addLast_0 8 rfl rfl)
theorem dJ1_addLast_11 : decode cJ1_addLast 11 = .ok (.athrow, 1) := dk_191 (dk_at dksJ1_addLast_0 11 rfl rfl)
theorem dJ1_addLast_12 : decode cJ1_addLast 12 = .ok (.aload_n 0, 1) := dk_42 (dk_at dksJ1_addLast_0 12 rfl rfl)
theorem dJ1_addLast_13 : decode cJ1_addLast 13 = .ok (.getfield 3, 3) := dk_180 0 3 (dk_at dksJ1_addLast_0 13 rfl rfl)
theorem dJ1_addLast_16 : decode cJ1_addLast 16 = .ok (.astore_n 2, 1) := dk_77 (dk_at dksJ1_addLast_0 16 rfl rfl)
theorem dJ1_addLast_17 : decode cJ1_addLast 17 = .ok (.aload_n 2, 1) := dk_44 (dk_at dksJ1_addLast_0 17 rfl rfl)
theorem dJ1_addLast_18 : decode cJ1_addLast 18 = .ok (.aload_n 0, 1) := dk_42 (dk_at dksJ1_addLast_0 18 rfl rfl)
theorem dJ1_addLast_19 : decode cJ1_addLast 19 = .ok (.getfield 20, 3) := dk_180 0 20 (dk_at dksJ1_addLast_0 19 rfl rfl)
theorem dJ1_addLast_22 : decode cJ1_addLast 22 = .ok (.aload_n 1, 1) := dk_43 (dk_at dksJ1_addLast_0 22 rfl rfl)
theorem dJ1_addLast_23 : decode cJ1_addLast 23 = .ok (.aastore, 1) := dk_83 (dk_at dksJ1_addLast_0 23 rfl rfl)
theorem dJ1_addLast_24 : decode cJ1_addLast 24 = .ok (.aload_n 0, 1) := dk_42 (dk_at dksJ1_addLast_1 0 rfl rfl)
theorem dJ1_addLast_25 : decode cJ1_addLast 25 = .ok (.getfield 24, 3) := dk_180 0 24 (dk_at dksJ1_addLast_1 1 rfl rfl)
theorem dJ1_addLast_28 : decode cJ1_addLast 28 = .ok (.aload_n 0, 1) := dk_42 (dk_at dksJ1_addLast_1 4 rfl rfl)
theorem dJ1_addLast_29 : decode cJ1_addLast 29 = .ok (.aload_n 0, 1) := dk_42 (dk_at dksJ1_addLast_1 5 rfl rfl)
theorem dJ1_addLast_30 : decode cJ1_addLast 30 = .ok (.getfield 20, 3) := dk_180 0 20 (dk_at dksJ1_addLast_1 6 rfl rfl)
theorem dJ1_addLast_33 : decode cJ1_addLast 33 = .ok (.aload_n 2, 1) := dk_44 (dk_at dksJ1_addLast_1 9 rfl rfl)
theorem dJ1_addLast_34 : decode cJ1_addLast 34 = .ok (.arraylength, 1) := dk_190 (dk_at dksJ1_addLast_1 10 rfl rfl)
theorem dJ1_addLast_35 : decode cJ1_addLast 35 = .ok (.invokestatic 74, 3) := dk_184 0 74 (dk_at dksJ1_addLast_1 11 rfl rfl)
theorem dJ1_addLast_38 : decode cJ1_addLast 38 = .ok (.dup_x1, 1) := dk_90 (dk_at dksJ1_addLast_1 14 rfl rfl)
theorem dJ1_addLast_39 : decode cJ1_addLast 39 = .ok (.putfield 20, 3) := dk_181 0 20 (dk_at dksJ1_addLast_1 15 rfl rfl)
theorem dJ1_addLast_42 : decode cJ1_addLast 42 = .ok (.if_icmp .ne 8, 3) := dk_160 0 8 (dk_at dksJ1_addLast_1 18 rfl rfl)
theorem dJ1_addLast_45 : decode cJ1_addLast 45 = .ok (.aload_n 0, 1) := dk_42 (dk_at dksJ1_addLast_1 21 rfl rfl)
theorem dJ1_addLast_46 : decode cJ1_addLast 46 = .ok (.iconst 1, 1) := dk_4 (dk_at dksJ1_addLast_1 22 rfl rfl)
theorem dJ1_addLast_47 : decode cJ1_addLast 47 = .ok (.invokevirtual 71, 3) := dk_182 0 71 (dk_at dksJ1_addLast_2 0 rfl rfl)
theorem dJ1_addLast_50 : decode cJ1_addLast 50 = .ok (.return_, 1) := dk_177 (dk_at dksJ1_addLast_2 3 rfl rfl)
abbrev cJ1_inc : ByteArray := prog_51_method_6_code
def yJ1_inc : MethodName := ⟨RJ1, "inc", "(II)I"⟩
def dkwJ1_inc_0 : List UInt8 := [132, 0, 1, 26, 27, 161, 0, 5, 3, 59, 26, 172]
abbrev dktJ1_inc_0 : List UInt8 := dkwJ1_inc_0 ++ []
theorem dksJ1_inc_0 : cJ1_inc.data.toList.drop 0 = dktJ1_inc_0 := by decide +kernel
theorem dJ1_inc_0 : decode cJ1_inc 0 = .ok (.iinc 0 1, 3) := dk_132 0 1 (dk_at dksJ1_inc_0 0 rfl rfl)
theorem dJ1_inc_3 : decode cJ1_inc 3 = .ok (.iload_n 0, 1) := dk_26 (dk_at dksJ1_inc_0 3 rfl rfl)
theorem dJ1_inc_4 : decode cJ1_inc 4 = .ok (.iload_n 1, 1) := dk_27 (dk_at dksJ1_inc_0 4 rfl rfl)
theorem dJ1_inc_5 : decode cJ1_inc 5 = .ok (.if_icmp .lt 5, 3) := dk_161 0 5 (dk_at dksJ1_inc_0 5 rfl rfl)
theorem dJ1_inc_8 : decode cJ1_inc 8 = .ok (.iconst 0, 1) := dk_3 (dk_at dksJ1_inc_0 8 rfl rfl)
theorem dJ1_inc_9 : decode cJ1_inc 9 = .ok (.istore_n 0, 1) := dk_59 (dk_at dksJ1_inc_0 9 rfl rfl)
theorem dJ1_inc_10 : decode cJ1_inc 10 = .ok (.iload_n 0, 1) := dk_26 (dk_at dksJ1_inc_0 10 rfl rfl)
theorem dJ1_inc_11 : decode cJ1_inc 11 = .ok (.ireturn, 1) := dk_172 (dk_at dksJ1_inc_0 11 rfl rfl)
abbrev cJ1_grow : ByteArray := prog_51_method_1_code
def yJ1_grow : MethodName := ⟨RJ1, "grow", "(I)V"⟩
def dkwJ1_grow_7 : List UInt8 := [177]
abbrev dktJ1_grow_7 : List UInt8 := dkwJ1_grow_7 ++ []
def dkwJ1_grow_6 : List UInt8 := [181, 0, 24, 54, 8, 21, 7, 21, 8, 162, 0, 15, 25, 5, 21, 7, 1, 83, 132, 7, 1, 167, 255, 240]
abbrev dktJ1_grow_6 : List UInt8 := dkwJ1_grow_6 ++ dktJ1_grow_7
def dkwJ1_grow_5 : List UInt8 := [42, 180, 0, 24, 100, 184, 0, 27, 42, 180, 0, 24, 54, 7, 42, 89, 180, 0, 24, 21, 6, 96, 90]
abbrev dktJ1_grow_5 : List UInt8 := dkwJ1_grow_5 ++ dktJ1_grow_6
def dkwJ1_grow_4 : List UInt8 := [198, 0, 71, 29, 28, 100, 54, 6, 25, 5, 42, 180, 0, 24, 25, 5, 42, 180, 0, 24, 21, 6, 96, 28]
abbrev dktJ1_grow_4 : List UInt8 := dkwJ1_grow_4 ++ dktJ1_grow_5
def dkwJ1_grow_3 : List UInt8 := [180, 0, 24, 161, 0, 24, 42, 180, 0, 20, 42, 180, 0, 24, 160, 0, 81, 25, 5, 42, 180, 0, 24, 50]
abbrev dktJ1_grow_3 : List UInt8 := dkwJ1_grow_3 ++ dktJ1_grow_4
def dkwJ1_grow_2 : List UInt8 := [182, 0, 10, 62, 42, 42, 180, 0, 3, 29, 184, 0, 14, 90, 181, 0, 3, 58, 5, 42, 180, 0, 20, 42]
abbrev dktJ1_grow_2 : List UInt8 := dkwJ1_grow_2 ++ dktJ1_grow_3
def dkwJ1_grow_1 : List UInt8 := [21, 4, 27, 161, 0, 15, 28, 21, 4, 96, 89, 62, 18, 9, 100, 158, 0, 11, 42, 27, 21, 4]
abbrev dktJ1_grow_1 : List UInt8 := dkwJ1_grow_1 ++ dktJ1_grow_2
def dkwJ1_grow_0 : List UInt8 := [42, 180, 0, 3, 190, 61, 28, 16, 64, 162, 0, 9, 28, 5, 96, 167, 0, 6, 28, 4, 122, 54, 4]
abbrev dktJ1_grow_0 : List UInt8 := dkwJ1_grow_0 ++ dktJ1_grow_1
theorem dksJ1_grow_0 : cJ1_grow.data.toList.drop 0 = dktJ1_grow_0 := by decide +kernel
theorem dksJ1_grow_1 : cJ1_grow.data.toList.drop 23 = dktJ1_grow_1 := dk_seg dksJ1_grow_0 23 rfl rfl
theorem dksJ1_grow_2 : cJ1_grow.data.toList.drop 45 = dktJ1_grow_2 := dk_seg dksJ1_grow_1 22 rfl rfl
theorem dksJ1_grow_3 : cJ1_grow.data.toList.drop 69 = dktJ1_grow_3 := dk_seg dksJ1_grow_2 24 rfl rfl
theorem dksJ1_grow_4 : cJ1_grow.data.toList.drop 93 = dktJ1_grow_4 := dk_seg dksJ1_grow_3 24 rfl rfl
theorem dksJ1_grow_5 : cJ1_grow.data.toList.drop 117 = dktJ1_grow_5 := dk_seg dksJ1_grow_4 24 rfl rfl
theorem dksJ1_grow_6 : cJ1_grow.data.toList.drop 140 = dktJ1_grow_6 := dk_seg dksJ1_grow_5 23 rfl rfl
theorem dksJ1_grow_7 : cJ1_grow.data.toList.drop 164 = dktJ1_grow_7 := dk_seg dksJ1_grow_6 24 rfl rfl
theorem dJ1_grow_0 : decode cJ1_grow 0 = .ok (.aload_n 0, 1) := dk_42 (dk_at dksJ1_grow_0 0 rfl rfl)
theorem dJ1_grow_1 : decode cJ1_grow 1 = .ok (.getfield 3, 3) := dk_180 0 3 (dk_at dksJ1_grow_0 1 rfl rfl)
theorem dJ1_grow_4 : decode cJ1_grow 4 = .ok (.arraylength, 1) := dk_190 (dk_at dksJ1_grow_0 4 rfl rfl)
theorem dJ1_grow_5 : decode cJ1_grow 5 = .ok (.istore_n 2, 1) := dk_61 (dk_at dksJ1_grow_0 5 rfl rfl)
theorem dJ1_grow_6 : decode cJ1_grow 6 = .ok (.iload_n 2, 1) := dk_28 (dk_at dksJ1_grow_0 6 rfl rfl)
theorem dJ1_grow_7 : decode cJ1_grow 7 = .ok (.bipush 64, 2) := dk_16 64 (dk_at dksJ1_grow_0 7 rfl rfl)
theorem dJ1_grow_9 : decode cJ1_grow 9 = .ok (.if_icmp .ge 9, 3) := dk_162 0 9 (dk_at dksJ1_grow_0 9 rfl rfl)
theorem dJ1_grow_12 : decode cJ1_grow 12 = .ok (.iload_n 2, 1) := dk_28 (dk_at dksJ1_grow_0 12 rfl rfl)
theorem dJ1_grow_13 : decode cJ1_grow 13 = .ok (.iconst 2, 1) := dk_5 (dk_at dksJ1_grow_0 13 rfl rfl)
theorem dJ1_grow_14 : decode cJ1_grow 14 = .ok (.iadd, 1) := dk_96 (dk_at dksJ1_grow_0 14 rfl rfl)
theorem dJ1_grow_15 : decode cJ1_grow 15 = .ok (.goto 6, 3) := dk_167 0 6 (dk_at dksJ1_grow_0 15 rfl rfl)
theorem dJ1_grow_18 : decode cJ1_grow 18 = .ok (.iload_n 2, 1) := dk_28 (dk_at dksJ1_grow_0 18 rfl rfl)
theorem dJ1_grow_19 : decode cJ1_grow 19 = .ok (.iconst 1, 1) := dk_4 (dk_at dksJ1_grow_0 19 rfl rfl)
theorem dJ1_grow_20 : decode cJ1_grow 20 = .ok (.ishr, 1) := dk_122 (dk_at dksJ1_grow_0 20 rfl rfl)
theorem dJ1_grow_21 : decode cJ1_grow 21 = .ok (.istore 4, 2) := dk_54 4 (dk_at dksJ1_grow_0 21 rfl rfl)
theorem dJ1_grow_23 : decode cJ1_grow 23 = .ok (.iload 4, 2) := dk_21 4 (dk_at dksJ1_grow_1 0 rfl rfl)
theorem dJ1_grow_25 : decode cJ1_grow 25 = .ok (.iload_n 1, 1) := dk_27 (dk_at dksJ1_grow_1 2 rfl rfl)
theorem dJ1_grow_26 : decode cJ1_grow 26 = .ok (.if_icmp .lt 15, 3) := dk_161 0 15 (dk_at dksJ1_grow_1 3 rfl rfl)
theorem dJ1_grow_29 : decode cJ1_grow 29 = .ok (.iload_n 2, 1) := dk_28 (dk_at dksJ1_grow_1 6 rfl rfl)
theorem dJ1_grow_30 : decode cJ1_grow 30 = .ok (.iload 4, 2) := dk_21 4 (dk_at dksJ1_grow_1 7 rfl rfl)
theorem dJ1_grow_32 : decode cJ1_grow 32 = .ok (.iadd, 1) := dk_96 (dk_at dksJ1_grow_1 9 rfl rfl)
theorem dJ1_grow_33 : decode cJ1_grow 33 = .ok (.dup, 1) := dk_89 (dk_at dksJ1_grow_1 10 rfl rfl)
theorem dJ1_grow_34 : decode cJ1_grow 34 = .ok (.istore_n 3, 1) := dk_62 (dk_at dksJ1_grow_1 11 rfl rfl)
theorem dJ1_grow_35 : decode cJ1_grow 35 = .ok (.ldc 9, 2) := dk_18 9 (dk_at dksJ1_grow_1 12 rfl rfl)
theorem dJ1_grow_37 : decode cJ1_grow 37 = .ok (.isub, 1) := dk_100 (dk_at dksJ1_grow_1 14 rfl rfl)
theorem dJ1_grow_38 : decode cJ1_grow 38 = .ok (.ifCond .le 11, 3) := dk_158 0 11 (dk_at dksJ1_grow_1 15 rfl rfl)
theorem dJ1_grow_41 : decode cJ1_grow 41 = .ok (.aload_n 0, 1) := dk_42 (dk_at dksJ1_grow_1 18 rfl rfl)
theorem dJ1_grow_42 : decode cJ1_grow 42 = .ok (.iload_n 1, 1) := dk_27 (dk_at dksJ1_grow_1 19 rfl rfl)
theorem dJ1_grow_43 : decode cJ1_grow 43 = .ok (.iload 4, 2) := dk_21 4 (dk_at dksJ1_grow_1 20 rfl rfl)
theorem dJ1_grow_45 : decode cJ1_grow 45 = .ok (.invokevirtual 10, 3) := dk_182 0 10 (dk_at dksJ1_grow_2 0 rfl rfl)
theorem dJ1_grow_48 : decode cJ1_grow 48 = .ok (.istore_n 3, 1) := dk_62 (dk_at dksJ1_grow_2 3 rfl rfl)
theorem dJ1_grow_49 : decode cJ1_grow 49 = .ok (.aload_n 0, 1) := dk_42 (dk_at dksJ1_grow_2 4 rfl rfl)
theorem dJ1_grow_50 : decode cJ1_grow 50 = .ok (.aload_n 0, 1) := dk_42 (dk_at dksJ1_grow_2 5 rfl rfl)
theorem dJ1_grow_51 : decode cJ1_grow 51 = .ok (.getfield 3, 3) := dk_180 0 3 (dk_at dksJ1_grow_2 6 rfl rfl)
theorem dJ1_grow_54 : decode cJ1_grow 54 = .ok (.iload_n 3, 1) := dk_29 (dk_at dksJ1_grow_2 9 rfl rfl)
theorem dJ1_grow_55 : decode cJ1_grow 55 = .ok (.invokestatic 14, 3) := dk_184 0 14 (dk_at dksJ1_grow_2 10 rfl rfl)
theorem dJ1_grow_58 : decode cJ1_grow 58 = .ok (.dup_x1, 1) := dk_90 (dk_at dksJ1_grow_2 13 rfl rfl)
theorem dJ1_grow_59 : decode cJ1_grow 59 = .ok (.putfield 3, 3) := dk_181 0 3 (dk_at dksJ1_grow_2 14 rfl rfl)
theorem dJ1_grow_62 : decode cJ1_grow 62 = .ok (.astore 5, 2) := dk_58 5 (dk_at dksJ1_grow_2 17 rfl rfl)
theorem dJ1_grow_64 : decode cJ1_grow 64 = .ok (.aload_n 0, 1) := dk_42 (dk_at dksJ1_grow_2 19 rfl rfl)
theorem dJ1_grow_65 : decode cJ1_grow 65 = .ok (.getfield 20, 3) := dk_180 0 20 (dk_at dksJ1_grow_2 20 rfl rfl)
theorem dJ1_grow_68 : decode cJ1_grow 68 = .ok (.aload_n 0, 1) := dk_42 (dk_at dksJ1_grow_2 23 rfl rfl)
theorem dJ1_grow_69 : decode cJ1_grow 69 = .ok (.getfield 24, 3) := dk_180 0 24 (dk_at dksJ1_grow_3 0 rfl rfl)
theorem dJ1_grow_72 : decode cJ1_grow 72 = .ok (.if_icmp .lt 24, 3) := dk_161 0 24 (dk_at dksJ1_grow_3 3 rfl rfl)
theorem dJ1_grow_75 : decode cJ1_grow 75 = .ok (.aload_n 0, 1) := dk_42 (dk_at dksJ1_grow_3 6 rfl rfl)
theorem dJ1_grow_76 : decode cJ1_grow 76 = .ok (.getfield 20, 3) := dk_180 0 20 (dk_at dksJ1_grow_3 7 rfl rfl)
theorem dJ1_grow_79 : decode cJ1_grow 79 = .ok (.aload_n 0, 1) := dk_42 (dk_at dksJ1_grow_3 10 rfl rfl)
theorem dJ1_grow_80 : decode cJ1_grow 80 = .ok (.getfield 24, 3) := dk_180 0 24 (dk_at dksJ1_grow_3 11 rfl rfl)
theorem dJ1_grow_83 : decode cJ1_grow 83 = .ok (.if_icmp .ne 81, 3) := dk_160 0 81 (dk_at dksJ1_grow_3 14 rfl rfl)
theorem dJ1_grow_86 : decode cJ1_grow 86 = .ok (.aload 5, 2) := dk_25 5 (dk_at dksJ1_grow_3 17 rfl rfl)
theorem dJ1_grow_88 : decode cJ1_grow 88 = .ok (.aload_n 0, 1) := dk_42 (dk_at dksJ1_grow_3 19 rfl rfl)
theorem dJ1_grow_89 : decode cJ1_grow 89 = .ok (.getfield 24, 3) := dk_180 0 24 (dk_at dksJ1_grow_3 20 rfl rfl)
theorem dJ1_grow_92 : decode cJ1_grow 92 = .ok (.aaload, 1) := dk_50 (dk_at dksJ1_grow_3 23 rfl rfl)
theorem dJ1_grow_93 : decode cJ1_grow 93 = .ok (.ifnull 71, 3) := dk_198 0 71 (dk_at dksJ1_grow_4 0 rfl rfl)
theorem dJ1_grow_96 : decode cJ1_grow 96 = .ok (.iload_n 3, 1) := dk_29 (dk_at dksJ1_grow_4 3 rfl rfl)
theorem dJ1_grow_97 : decode cJ1_grow 97 = .ok (.iload_n 2, 1) := dk_28 (dk_at dksJ1_grow_4 4 rfl rfl)
theorem dJ1_grow_98 : decode cJ1_grow 98 = .ok (.isub, 1) := dk_100 (dk_at dksJ1_grow_4 5 rfl rfl)
theorem dJ1_grow_99 : decode cJ1_grow 99 = .ok (.istore 6, 2) := dk_54 6 (dk_at dksJ1_grow_4 6 rfl rfl)
theorem dJ1_grow_101 : decode cJ1_grow 101 = .ok (.aload 5, 2) := dk_25 5 (dk_at dksJ1_grow_4 8 rfl rfl)
theorem dJ1_grow_103 : decode cJ1_grow 103 = .ok (.aload_n 0, 1) := dk_42 (dk_at dksJ1_grow_4 10 rfl rfl)
theorem dJ1_grow_104 : decode cJ1_grow 104 = .ok (.getfield 24, 3) := dk_180 0 24 (dk_at dksJ1_grow_4 11 rfl rfl)
theorem dJ1_grow_107 : decode cJ1_grow 107 = .ok (.aload 5, 2) := dk_25 5 (dk_at dksJ1_grow_4 14 rfl rfl)
theorem dJ1_grow_109 : decode cJ1_grow 109 = .ok (.aload_n 0, 1) := dk_42 (dk_at dksJ1_grow_4 16 rfl rfl)
theorem dJ1_grow_110 : decode cJ1_grow 110 = .ok (.getfield 24, 3) := dk_180 0 24 (dk_at dksJ1_grow_4 17 rfl rfl)
theorem dJ1_grow_113 : decode cJ1_grow 113 = .ok (.iload 6, 2) := dk_21 6 (dk_at dksJ1_grow_4 20 rfl rfl)
theorem dJ1_grow_115 : decode cJ1_grow 115 = .ok (.iadd, 1) := dk_96 (dk_at dksJ1_grow_4 22 rfl rfl)
theorem dJ1_grow_116 : decode cJ1_grow 116 = .ok (.iload_n 2, 1) := dk_28 (dk_at dksJ1_grow_4 23 rfl rfl)
theorem dJ1_grow_117 : decode cJ1_grow 117 = .ok (.aload_n 0, 1) := dk_42 (dk_at dksJ1_grow_5 0 rfl rfl)
theorem dJ1_grow_118 : decode cJ1_grow 118 = .ok (.getfield 24, 3) := dk_180 0 24 (dk_at dksJ1_grow_5 1 rfl rfl)
theorem dJ1_grow_121 : decode cJ1_grow 121 = .ok (.isub, 1) := dk_100 (dk_at dksJ1_grow_5 4 rfl rfl)
theorem dJ1_grow_122 : decode cJ1_grow 122 = .ok (.invokestatic 27, 3) := dk_184 0 27 (dk_at dksJ1_grow_5 5 rfl rfl)
theorem dJ1_grow_125 : decode cJ1_grow 125 = .ok (.aload_n 0, 1) := dk_42 (dk_at dksJ1_grow_5 8 rfl rfl)
theorem dJ1_grow_126 : decode cJ1_grow 126 = .ok (.getfield 24, 3) := dk_180 0 24 (dk_at dksJ1_grow_5 9 rfl rfl)
theorem dJ1_grow_129 : decode cJ1_grow 129 = .ok (.istore 7, 2) := dk_54 7 (dk_at dksJ1_grow_5 12 rfl rfl)
theorem dJ1_grow_131 : decode cJ1_grow 131 = .ok (.aload_n 0, 1) := dk_42 (dk_at dksJ1_grow_5 14 rfl rfl)
theorem dJ1_grow_132 : decode cJ1_grow 132 = .ok (.dup, 1) := dk_89 (dk_at dksJ1_grow_5 15 rfl rfl)
theorem dJ1_grow_133 : decode cJ1_grow 133 = .ok (.getfield 24, 3) := dk_180 0 24 (dk_at dksJ1_grow_5 16 rfl rfl)
theorem dJ1_grow_136 : decode cJ1_grow 136 = .ok (.iload 6, 2) := dk_21 6 (dk_at dksJ1_grow_5 19 rfl rfl)
theorem dJ1_grow_138 : decode cJ1_grow 138 = .ok (.iadd, 1) := dk_96 (dk_at dksJ1_grow_5 21 rfl rfl)
theorem dJ1_grow_139 : decode cJ1_grow 139 = .ok (.dup_x1, 1) := dk_90 (dk_at dksJ1_grow_5 22 rfl rfl)
theorem dJ1_grow_140 : decode cJ1_grow 140 = .ok (.putfield 24, 3) := dk_181 0 24 (dk_at dksJ1_grow_6 0 rfl rfl)
theorem dJ1_grow_143 : decode cJ1_grow 143 = .ok (.istore 8, 2) := dk_54 8 (dk_at dksJ1_grow_6 3 rfl rfl)
theorem dJ1_grow_145 : decode cJ1_grow 145 = .ok (.iload 7, 2) := dk_21 7 (dk_at dksJ1_grow_6 5 rfl rfl)
theorem dJ1_grow_147 : decode cJ1_grow 147 = .ok (.iload 8, 2) := dk_21 8 (dk_at dksJ1_grow_6 7 rfl rfl)
theorem dJ1_grow_149 : decode cJ1_grow 149 = .ok (.if_icmp .ge 15, 3) := dk_162 0 15 (dk_at dksJ1_grow_6 9 rfl rfl)
theorem dJ1_grow_152 : decode cJ1_grow 152 = .ok (.aload 5, 2) := dk_25 5 (dk_at dksJ1_grow_6 12 rfl rfl)
theorem dJ1_grow_154 : decode cJ1_grow 154 = .ok (.iload 7, 2) := dk_21 7 (dk_at dksJ1_grow_6 14 rfl rfl)
theorem dJ1_grow_156 : decode cJ1_grow 156 = .ok (.aconst_null, 1) := dk_1 (dk_at dksJ1_grow_6 16 rfl rfl)
theorem dJ1_grow_157 : decode cJ1_grow 157 = .ok (.aastore, 1) := dk_83 (dk_at dksJ1_grow_6 17 rfl rfl)
theorem dJ1_grow_158 : decode cJ1_grow 158 = .ok (.iinc 7 1, 3) := dk_132 7 1 (dk_at dksJ1_grow_6 18 rfl rfl)
theorem dJ1_grow_161 : decode cJ1_grow 161 = .ok (.goto (-16), 3) := dk_167 255 240 (dk_at dksJ1_grow_6 21 rfl rfl)
theorem dJ1_grow_164 : decode cJ1_grow 164 = .ok (.return_, 1) := dk_177 (dk_at dksJ1_grow_7 0 rfl rfl)
abbrev cJ1_newCapacity : ByteArray := prog_51_method_2_code
def yJ1_newCapacity : MethodName := ⟨RJ1, "newCapacity", "(II)I"⟩
def dkwJ1_newCapacity_2 : List UInt8 := [18, 9, 100, 156, 0, 9, 29, 28, 96, 167, 0, 5, 18, 9, 172]
abbrev dktJ1_newCapacity_2 : List UInt8 := dkwJ1_newCapacity_2 ++ []
def dkwJ1_newCapacity_1 : List UInt8 := [187, 0, 33, 89, 18, 35, 183, 0, 37, 191, 18, 41, 172, 27, 28, 164, 0, 6, 21, 4, 172, 29, 28, 96]
abbrev dktJ1_newCapacity_1 : List UInt8 := dkwJ1_newCapacity_1 ++ dktJ1_newCapacity_2
def dkwJ1_newCapacity_0 : List UInt8 := [42, 180, 0, 3, 190, 62, 29, 27, 96, 89, 54, 4, 18, 9, 100, 158, 0, 21, 21, 4, 156, 0, 13]
abbrev dktJ1_newCapacity_0 : List UInt8 := dkwJ1_newCapacity_0 ++ dktJ1_newCapacity_1
theorem dksJ1_newCapacity_0 : cJ1_newCapacity.data.toList.drop 0 = dktJ1_newCapacity_0 := by decide +kernel
theorem dksJ1_newCapacity_1 : cJ1_newCapacity.data.toList.drop 23 = dktJ1_newCapacity_1 := dk_seg dksJ1_newCapacity_0 23 rfl rfl
theorem dksJ1_newCapacity_2 : cJ1_newCapacity.data.toList.drop 47 = dktJ1_newCapacity_2 := dk_seg dksJ1_newCapacity_1 24 rfl rfl
theorem dJ1_newCapacity_0 : decode cJ1_newCapacity 0 = .ok (.aload_n 0, 1) := dk_42 (dk_at dksJ1_newCapacity_0 0 rfl rfl)
theorem dJ1_newCapacity_1 : decode cJ1_newCapacity 1 = .ok (.getfield 3, 3) := dk_180 0 3 (dk_at dksJ1_newCapacity_0 1 rfl rfl)
theorem dJ1_newCapacity_4 : decode cJ1_newCapacity 4 = .ok (.arraylength, 1) := dk_190 (dk_at dksJ1_newCapacity_0 4 rfl rfl)
theorem dJ1_newCapacity_5 : decode cJ1_newCapacity 5 = .ok (.istore_n 3, 1) := dk_62 (dk_at dksJ1_newCapacity_0 5 rfl rfl)
theorem dJ1_newCapacity_6 : decode cJ1_newCapacity 6 = .ok (.iload_n 3, 1) := dk_29 (dk_at dksJ1_newCapacity_0 6 rfl rfl)
theorem dJ1_newCapacity_7 : decode cJ1_newCapacity 7 = .ok (.iload_n 1, 1) := dk_27 (dk_at dksJ1_newCapacity_0 7 rfl rfl)
theorem dJ1_newCapacity_8 : decode cJ1_newCapacity 8 = .ok (.iadd, 1) := dk_96 (dk_at dksJ1_newCapacity_0 8 rfl rfl)
theorem dJ1_newCapacity_9 : decode cJ1_newCapacity 9 = .ok (.dup, 1) := dk_89 (dk_at dksJ1_newCapacity_0 9 rfl rfl)
theorem dJ1_newCapacity_10 : decode cJ1_newCapacity 10 = .ok (.istore 4, 2) := dk_54 4 (dk_at dksJ1_newCapacity_0 10 rfl rfl)
theorem dJ1_newCapacity_12 : decode cJ1_newCapacity 12 = .ok (.ldc 9, 2) := dk_18 9 (dk_at dksJ1_newCapacity_0 12 rfl rfl)
theorem dJ1_newCapacity_14 : decode cJ1_newCapacity 14 = .ok (.isub, 1) := dk_100 (dk_at dksJ1_newCapacity_0 14 rfl rfl)
theorem dJ1_newCapacity_15 : decode cJ1_newCapacity 15 = .ok (.ifCond .le 21, 3) := dk_158 0 21 (dk_at dksJ1_newCapacity_0 15 rfl rfl)
theorem dJ1_newCapacity_18 : decode cJ1_newCapacity 18 = .ok (.iload 4, 2) := dk_21 4 (dk_at dksJ1_newCapacity_0 18 rfl rfl)
theorem dJ1_newCapacity_20 : decode cJ1_newCapacity 20 = .ok (.ifCond .ge 13, 3) := dk_156 0 13 (dk_at dksJ1_newCapacity_0 20 rfl rfl)
theorem dJ1_newCapacity_23 : decode cJ1_newCapacity 23 = .ok (.new 33, 3) := dk_187 0 33 (dk_at dksJ1_newCapacity_1 0 rfl rfl)
theorem dJ1_newCapacity_26 : decode cJ1_newCapacity 26 = .ok (.dup, 1) := dk_89 (dk_at dksJ1_newCapacity_1 3 rfl rfl)
theorem dJ1_newCapacity_27 : decode cJ1_newCapacity 27 = .ok (.ldc 35, 2) := dk_18 35 (dk_at dksJ1_newCapacity_1 4 rfl rfl)
theorem dJ1_newCapacity_29 : decode cJ1_newCapacity 29 = .ok (.invokespecial 37, 3) := dk_183 0 37 (dk_at dksJ1_newCapacity_1 6 rfl rfl)
theorem dJ1_newCapacity_32 : decode cJ1_newCapacity 32 = .ok (.athrow, 1) := dk_191 (dk_at dksJ1_newCapacity_1 9 rfl rfl)
theorem dJ1_newCapacity_33 : decode cJ1_newCapacity 33 = .ok (.ldc 41, 2) := dk_18 41 (dk_at dksJ1_newCapacity_1 10 rfl rfl)
theorem dJ1_newCapacity_35 : decode cJ1_newCapacity 35 = .ok (.ireturn, 1) := dk_172 (dk_at dksJ1_newCapacity_1 12 rfl rfl)
theorem dJ1_newCapacity_36 : decode cJ1_newCapacity 36 = .ok (.iload_n 1, 1) := dk_27 (dk_at dksJ1_newCapacity_1 13 rfl rfl)
theorem dJ1_newCapacity_37 : decode cJ1_newCapacity 37 = .ok (.iload_n 2, 1) := dk_28 (dk_at dksJ1_newCapacity_1 14 rfl rfl)
theorem dJ1_newCapacity_38 : decode cJ1_newCapacity 38 = .ok (.if_icmp .le 6, 3) := dk_164 0 6 (dk_at dksJ1_newCapacity_1 15 rfl rfl)
theorem dJ1_newCapacity_41 : decode cJ1_newCapacity 41 = .ok (.iload 4, 2) := dk_21 4 (dk_at dksJ1_newCapacity_1 18 rfl rfl)
theorem dJ1_newCapacity_43 : decode cJ1_newCapacity 43 = .ok (.ireturn, 1) := dk_172 (dk_at dksJ1_newCapacity_1 20 rfl rfl)
theorem dJ1_newCapacity_44 : decode cJ1_newCapacity 44 = .ok (.iload_n 3, 1) := dk_29 (dk_at dksJ1_newCapacity_1 21 rfl rfl)
theorem dJ1_newCapacity_45 : decode cJ1_newCapacity 45 = .ok (.iload_n 2, 1) := dk_28 (dk_at dksJ1_newCapacity_1 22 rfl rfl)
theorem dJ1_newCapacity_46 : decode cJ1_newCapacity 46 = .ok (.iadd, 1) := dk_96 (dk_at dksJ1_newCapacity_1 23 rfl rfl)
theorem dJ1_newCapacity_47 : decode cJ1_newCapacity 47 = .ok (.ldc 9, 2) := dk_18 9 (dk_at dksJ1_newCapacity_2 0 rfl rfl)
theorem dJ1_newCapacity_49 : decode cJ1_newCapacity 49 = .ok (.isub, 1) := dk_100 (dk_at dksJ1_newCapacity_2 2 rfl rfl)
theorem dJ1_newCapacity_50 : decode cJ1_newCapacity 50 = .ok (.ifCond .ge 9, 3) := dk_156 0 9 (dk_at dksJ1_newCapacity_2 3 rfl rfl)
theorem dJ1_newCapacity_53 : decode cJ1_newCapacity 53 = .ok (.iload_n 3, 1) := dk_29 (dk_at dksJ1_newCapacity_2 6 rfl rfl)
theorem dJ1_newCapacity_54 : decode cJ1_newCapacity 54 = .ok (.iload_n 2, 1) := dk_28 (dk_at dksJ1_newCapacity_2 7 rfl rfl)
theorem dJ1_newCapacity_55 : decode cJ1_newCapacity 55 = .ok (.iadd, 1) := dk_96 (dk_at dksJ1_newCapacity_2 8 rfl rfl)
theorem dJ1_newCapacity_56 : decode cJ1_newCapacity 56 = .ok (.goto 5, 3) := dk_167 0 5 (dk_at dksJ1_newCapacity_2 9 rfl rfl)
theorem dJ1_newCapacity_59 : decode cJ1_newCapacity 59 = .ok (.ldc 9, 2) := dk_18 9 (dk_at dksJ1_newCapacity_2 12 rfl rfl)
theorem dJ1_newCapacity_61 : decode cJ1_newCapacity 61 = .ok (.ireturn, 1) := dk_172 (dk_at dksJ1_newCapacity_2 14 rfl rfl)
abbrev cJ1_isEmpty : ByteArray := prog_51_method_38_code
def yJ1_isEmpty : MethodName := ⟨RJ1, "isEmpty", "()Z"⟩
def dkwJ1_isEmpty_0 : List UInt8 := [42, 180, 0, 24, 42, 180, 0, 20, 160, 0, 7, 4, 167, 0, 4, 3, 172]
abbrev dktJ1_isEmpty_0 : List UInt8 := dkwJ1_isEmpty_0 ++ []
theorem dksJ1_isEmpty_0 : cJ1_isEmpty.data.toList.drop 0 = dktJ1_isEmpty_0 := by decide +kernel
theorem dJ1_isEmpty_0 : decode cJ1_isEmpty 0 = .ok (.aload_n 0, 1) := dk_42 (dk_at dksJ1_isEmpty_0 0 rfl rfl)
theorem dJ1_isEmpty_1 : decode cJ1_isEmpty 1 = .ok (.getfield 24, 3) := dk_180 0 24 (dk_at dksJ1_isEmpty_0 1 rfl rfl)
theorem dJ1_isEmpty_4 : decode cJ1_isEmpty 4 = .ok (.aload_n 0, 1) := dk_42 (dk_at dksJ1_isEmpty_0 4 rfl rfl)
theorem dJ1_isEmpty_5 : decode cJ1_isEmpty 5 = .ok (.getfield 20, 3) := dk_180 0 20 (dk_at dksJ1_isEmpty_0 5 rfl rfl)
theorem dJ1_isEmpty_8 : decode cJ1_isEmpty 8 = .ok (.if_icmp .ne 7, 3) := dk_160 0 7 (dk_at dksJ1_isEmpty_0 8 rfl rfl)
theorem dJ1_isEmpty_11 : decode cJ1_isEmpty 11 = .ok (.iconst 1, 1) := dk_4 (dk_at dksJ1_isEmpty_0 11 rfl rfl)
theorem dJ1_isEmpty_12 : decode cJ1_isEmpty 12 = .ok (.goto 4, 3) := dk_167 0 4 (dk_at dksJ1_isEmpty_0 12 rfl rfl)
theorem dJ1_isEmpty_15 : decode cJ1_isEmpty 15 = .ok (.iconst 0, 1) := dk_3 (dk_at dksJ1_isEmpty_0 15 rfl rfl)
theorem dJ1_isEmpty_16 : decode cJ1_isEmpty 16 = .ok (.ireturn, 1) := dk_172 (dk_at dksJ1_isEmpty_0 16 rfl rfl)
abbrev cJ1_pollFirst : ByteArray := prog_51_method_20_code
def yJ1_pollFirst : MethodName := ⟨RJ1, "pollFirst", "()Ljava/lang/Object;"⟩
def dkwJ1_pollFirst_1 : List UInt8 := [42, 28, 43, 190, 184, 0, 74, 181, 0, 24, 45, 176]
abbrev dktJ1_pollFirst_1 : List UInt8 := dkwJ1_pollFirst_1 ++ []
def dkwJ1_pollFirst_0 : List UInt8 := [42, 180, 0, 3, 89, 76, 42, 180, 0, 24, 89, 61, 184, 0, 103, 78, 45, 198, 0, 17, 43, 28, 1, 83]
abbrev dktJ1_pollFirst_0 : List UInt8 := dkwJ1_pollFirst_0 ++ dktJ1_pollFirst_1
theorem dksJ1_pollFirst_0 : cJ1_pollFirst.data.toList.drop 0 = dktJ1_pollFirst_0 := by decide +kernel
theorem dksJ1_pollFirst_1 : cJ1_pollFirst.data.toList.drop 24 = dktJ1_pollFirst_1 := dk_seg dksJ1_pollFirst_0 24 rfl rfl
theorem dJ1_pollFirst_0 : decode cJ1_pollFirst 0 = .ok (.aload_n 0, 1) := dk_42 (dk_at dksJ1_pollFirst_0 0 rfl rfl)
theorem dJ1_pollFirst_1 : decode cJ1_pollFirst 1 = .ok (.getfield 3, 3) := dk_180 0 3 (dk_at dksJ1_pollFirst_0 1 rfl rfl)
theorem dJ1_pollFirst_4 : decode cJ1_pollFirst 4 = .ok (.dup, 1) := dk_89 (dk_at dksJ1_pollFirst_0 4 rfl rfl)
theorem dJ1_pollFirst_5 : decode cJ1_pollFirst 5 = .ok (.astore_n 1, 1) := dk_76 (dk_at dksJ1_pollFirst_0 5 rfl rfl)
theorem dJ1_pollFirst_6 : decode cJ1_pollFirst 6 = .ok (.aload_n 0, 1) := dk_42 (dk_at dksJ1_pollFirst_0 6 rfl rfl)
theorem dJ1_pollFirst_7 : decode cJ1_pollFirst 7 = .ok (.getfield 24, 3) := dk_180 0 24 (dk_at dksJ1_pollFirst_0 7 rfl rfl)
theorem dJ1_pollFirst_10 : decode cJ1_pollFirst 10 = .ok (.dup, 1) := dk_89 (dk_at dksJ1_pollFirst_0 10 rfl rfl)
theorem dJ1_pollFirst_11 : decode cJ1_pollFirst 11 = .ok (.istore_n 2, 1) := dk_61 (dk_at dksJ1_pollFirst_0 11 rfl rfl)
theorem dJ1_pollFirst_12 : decode cJ1_pollFirst 12 = .ok (.invokestatic 103, 3) := dk_184 0 103 (dk_at dksJ1_pollFirst_0 12 rfl rfl)
theorem dJ1_pollFirst_15 : decode cJ1_pollFirst 15 = .ok (.astore_n 3, 1) := dk_78 (dk_at dksJ1_pollFirst_0 15 rfl rfl)
theorem dJ1_pollFirst_16 : decode cJ1_pollFirst 16 = .ok (.aload_n 3, 1) := dk_45 (dk_at dksJ1_pollFirst_0 16 rfl rfl)
theorem dJ1_pollFirst_17 : decode cJ1_pollFirst 17 = .ok (.ifnull 17, 3) := dk_198 0 17 (dk_at dksJ1_pollFirst_0 17 rfl rfl)
theorem dJ1_pollFirst_20 : decode cJ1_pollFirst 20 = .ok (.aload_n 1, 1) := dk_43 (dk_at dksJ1_pollFirst_0 20 rfl rfl)
theorem dJ1_pollFirst_21 : decode cJ1_pollFirst 21 = .ok (.iload_n 2, 1) := dk_28 (dk_at dksJ1_pollFirst_0 21 rfl rfl)
theorem dJ1_pollFirst_22 : decode cJ1_pollFirst 22 = .ok (.aconst_null, 1) := dk_1 (dk_at dksJ1_pollFirst_0 22 rfl rfl)
theorem dJ1_pollFirst_23 : decode cJ1_pollFirst 23 = .ok (.aastore, 1) := dk_83 (dk_at dksJ1_pollFirst_0 23 rfl rfl)
theorem dJ1_pollFirst_24 : decode cJ1_pollFirst 24 = .ok (.aload_n 0, 1) := dk_42 (dk_at dksJ1_pollFirst_1 0 rfl rfl)
theorem dJ1_pollFirst_25 : decode cJ1_pollFirst 25 = .ok (.iload_n 2, 1) := dk_28 (dk_at dksJ1_pollFirst_1 1 rfl rfl)
theorem dJ1_pollFirst_26 : decode cJ1_pollFirst 26 = .ok (.aload_n 1, 1) := dk_43 (dk_at dksJ1_pollFirst_1 2 rfl rfl)
theorem dJ1_pollFirst_27 : decode cJ1_pollFirst 27 = .ok (.arraylength, 1) := dk_190 (dk_at dksJ1_pollFirst_1 3 rfl rfl)
theorem dJ1_pollFirst_28 : decode cJ1_pollFirst 28 = .ok (.invokestatic 74, 3) := dk_184 0 74 (dk_at dksJ1_pollFirst_1 4 rfl rfl)
theorem dJ1_pollFirst_31 : decode cJ1_pollFirst 31 = .ok (.putfield 24, 3) := dk_181 0 24 (dk_at dksJ1_pollFirst_1 7 rfl rfl)
theorem dJ1_pollFirst_34 : decode cJ1_pollFirst 34 = .ok (.aload_n 3, 1) := dk_45 (dk_at dksJ1_pollFirst_1 10 rfl rfl)
theorem dJ1_pollFirst_35 : decode cJ1_pollFirst 35 = .ok (.areturn, 1) := dk_176 (dk_at dksJ1_pollFirst_1 11 rfl rfl)
abbrev cJ1_elementAt : ByteArray := prog_51_method_10_code
def yJ1_elementAt : MethodName := ⟨RJ1, "elementAt", "([Ljava/lang/Object;I)Ljava/lang/Object;"⟩
def dkwJ1_elementAt_0 : List UInt8 := [42, 27, 50, 176]
abbrev dktJ1_elementAt_0 : List UInt8 := dkwJ1_elementAt_0 ++ []
theorem dksJ1_elementAt_0 : cJ1_elementAt.data.toList.drop 0 = dktJ1_elementAt_0 := by decide +kernel
theorem dJ1_elementAt_0 : decode cJ1_elementAt 0 = .ok (.aload_n 0, 1) := dk_42 (dk_at dksJ1_elementAt_0 0 rfl rfl)
theorem dJ1_elementAt_1 : decode cJ1_elementAt 1 = .ok (.iload_n 1, 1) := dk_27 (dk_at dksJ1_elementAt_0 1 rfl rfl)
theorem dJ1_elementAt_2 : decode cJ1_elementAt 2 = .ok (.aaload, 1) := dk_50 (dk_at dksJ1_elementAt_0 2 rfl rfl)
theorem dJ1_elementAt_3 : decode cJ1_elementAt 3 = .ok (.areturn, 1) := dk_176 (dk_at dksJ1_elementAt_0 3 rfl rfl)
abbrev cJ1_pollLast : ByteArray := prog_51_method_21_code
def yJ1_pollLast : MethodName := ⟨RJ1, "pollLast", "()Ljava/lang/Object;"⟩
def dkwJ1_pollLast_1 : List UInt8 := [198, 0, 12, 43, 42, 28, 90, 181, 0, 20, 1, 83, 45, 176]
abbrev dktJ1_pollLast_1 : List UInt8 := dkwJ1_pollLast_1 ++ []
def dkwJ1_pollLast_0 : List UInt8 := [42, 180, 0, 3, 89, 76, 42, 180, 0, 20, 43, 190, 184, 0, 68, 89, 61, 184, 0, 103, 78, 45]
abbrev dktJ1_pollLast_0 : List UInt8 := dkwJ1_pollLast_0 ++ dktJ1_pollLast_1
theorem dksJ1_pollLast_0 : cJ1_pollLast.data.toList.drop 0 = dktJ1_pollLast_0 := by decide +kernel
theorem dksJ1_pollLast_1 : cJ1_pollLast.data.toList.drop 22 = dktJ1_pollLast_1 := dk_seg dksJ1_pollLast_0 22 rfl rfl
theorem dJ1_pollLast_0 : decode cJ1_pollLast 0 = .ok (.aload_n 0, 1) := dk_42 (dk_at dksJ1_pollLast_0 0 rfl rfl)
theorem dJ1_pollLast_1 : decode cJ1_pollLast 1 = .ok (.getfield 3, 3) := dk_180 0 3 (dk_at dksJ1_pollLast_0 1 rfl rfl)
theorem dJ1_pollLast_4 : decode cJ1_pollLast 4 = .ok (.dup, 1) := dk_89 (dk_at dksJ1_pollLast_0 4 rfl rfl)
theorem dJ1_pollLast_5 : decode cJ1_pollLast 5 = .ok (.astore_n 1, 1) := dk_76 (dk_at dksJ1_pollLast_0 5 rfl rfl)
theorem dJ1_pollLast_6 : decode cJ1_pollLast 6 = .ok (.aload_n 0, 1) := dk_42 (dk_at dksJ1_pollLast_0 6 rfl rfl)
theorem dJ1_pollLast_7 : decode cJ1_pollLast 7 = .ok (.getfield 20, 3) := dk_180 0 20 (dk_at dksJ1_pollLast_0 7 rfl rfl)
theorem dJ1_pollLast_10 : decode cJ1_pollLast 10 = .ok (.aload_n 1, 1) := dk_43 (dk_at dksJ1_pollLast_0 10 rfl rfl)
theorem dJ1_pollLast_11 : decode cJ1_pollLast 11 = .ok (.arraylength, 1) := dk_190 (dk_at dksJ1_pollLast_0 11 rfl rfl)
theorem dJ1_pollLast_12 : decode cJ1_pollLast 12 = .ok (.invokestatic 68, 3) := dk_184 0 68 (dk_at dksJ1_pollLast_0 12 rfl rfl)
theorem dJ1_pollLast_15 : decode cJ1_pollLast 15 = .ok (.dup, 1) := dk_89 (dk_at dksJ1_pollLast_0 15 rfl rfl)
theorem dJ1_pollLast_16 : decode cJ1_pollLast 16 = .ok (.istore_n 2, 1) := dk_61 (dk_at dksJ1_pollLast_0 16 rfl rfl)
theorem dJ1_pollLast_17 : decode cJ1_pollLast 17 = .ok (.invokestatic 103, 3) := dk_184 0 103 (dk_at dksJ1_pollLast_0 17 rfl rfl)
theorem dJ1_pollLast_20 : decode cJ1_pollLast 20 = .ok (.astore_n 3, 1) := dk_78 (dk_at dksJ1_pollLast_0 20 rfl rfl)
theorem dJ1_pollLast_21 : decode cJ1_pollLast 21 = .ok (.aload_n 3, 1) := dk_45 (dk_at dksJ1_pollLast_0 21 rfl rfl)
theorem dJ1_pollLast_22 : decode cJ1_pollLast 22 = .ok (.ifnull 12, 3) := dk_198 0 12 (dk_at dksJ1_pollLast_1 0 rfl rfl)
theorem dJ1_pollLast_25 : decode cJ1_pollLast 25 = .ok (.aload_n 1, 1) := dk_43 (dk_at dksJ1_pollLast_1 3 rfl rfl)
theorem dJ1_pollLast_26 : decode cJ1_pollLast 26 = .ok (.aload_n 0, 1) := dk_42 (dk_at dksJ1_pollLast_1 4 rfl rfl)
theorem dJ1_pollLast_27 : decode cJ1_pollLast 27 = .ok (.iload_n 2, 1) := dk_28 (dk_at dksJ1_pollLast_1 5 rfl rfl)
theorem dJ1_pollLast_28 : decode cJ1_pollLast 28 = .ok (.dup_x1, 1) := dk_90 (dk_at dksJ1_pollLast_1 6 rfl rfl)
theorem dJ1_pollLast_29 : decode cJ1_pollLast 29 = .ok (.putfield 20, 3) := dk_181 0 20 (dk_at dksJ1_pollLast_1 7 rfl rfl)
theorem dJ1_pollLast_32 : decode cJ1_pollLast 32 = .ok (.aconst_null, 1) := dk_1 (dk_at dksJ1_pollLast_1 10 rfl rfl)
theorem dJ1_pollLast_33 : decode cJ1_pollLast 33 = .ok (.aastore, 1) := dk_83 (dk_at dksJ1_pollLast_1 11 rfl rfl)
theorem dJ1_pollLast_34 : decode cJ1_pollLast 34 = .ok (.aload_n 3, 1) := dk_45 (dk_at dksJ1_pollLast_1 12 rfl rfl)
theorem dJ1_pollLast_35 : decode cJ1_pollLast 35 = .ok (.areturn, 1) := dk_176 (dk_at dksJ1_pollLast_1 13 rfl rfl)
abbrev cJ1_dec : ByteArray := prog_51_method_7_code
def yJ1_dec : MethodName := ⟨RJ1, "dec", "(II)I"⟩
def dkwJ1_dec_0 : List UInt8 := [132, 0, 255, 26, 156, 0, 7, 27, 4, 100, 59, 26, 172]
abbrev dktJ1_dec_0 : List UInt8 := dkwJ1_dec_0 ++ []
theorem dksJ1_dec_0 : cJ1_dec.data.toList.drop 0 = dktJ1_dec_0 := by decide +kernel
theorem dJ1_dec_0 : decode cJ1_dec 0 = .ok (.iinc 0 (-1), 3) := dk_132 0 255 (dk_at dksJ1_dec_0 0 rfl rfl)
theorem dJ1_dec_3 : decode cJ1_dec 3 = .ok (.iload_n 0, 1) := dk_26 (dk_at dksJ1_dec_0 3 rfl rfl)
theorem dJ1_dec_4 : decode cJ1_dec 4 = .ok (.ifCond .ge 7, 3) := dk_156 0 7 (dk_at dksJ1_dec_0 4 rfl rfl)
theorem dJ1_dec_7 : decode cJ1_dec 7 = .ok (.iload_n 1, 1) := dk_27 (dk_at dksJ1_dec_0 7 rfl rfl)
theorem dJ1_dec_8 : decode cJ1_dec 8 = .ok (.iconst 1, 1) := dk_4 (dk_at dksJ1_dec_0 8 rfl rfl)
theorem dJ1_dec_9 : decode cJ1_dec 9 = .ok (.isub, 1) := dk_100 (dk_at dksJ1_dec_0 9 rfl rfl)
theorem dJ1_dec_10 : decode cJ1_dec 10 = .ok (.istore_n 0, 1) := dk_59 (dk_at dksJ1_dec_0 10 rfl rfl)
theorem dJ1_dec_11 : decode cJ1_dec 11 = .ok (.iload_n 0, 1) := dk_26 (dk_at dksJ1_dec_0 11 rfl rfl)
theorem dJ1_dec_12 : decode cJ1_dec 12 = .ok (.ireturn, 1) := dk_172 (dk_at dksJ1_dec_0 12 rfl rfl)
abbrev cJ1_size : ByteArray := prog_51_method_37_code
def yJ1_size : MethodName := ⟨RJ1, "size", "()I"⟩
def dkwJ1_size_0 : List UInt8 := [42, 180, 0, 20, 42, 180, 0, 24, 42, 180, 0, 3, 190, 184, 0, 127, 172]
abbrev dktJ1_size_0 : List UInt8 := dkwJ1_size_0 ++ []
theorem dksJ1_size_0 : cJ1_size.data.toList.drop 0 = dktJ1_size_0 := by decide +kernel
theorem dJ1_size_0 : decode cJ1_size 0 = .ok (.aload_n 0, 1) := dk_42 (dk_at dksJ1_size_0 0 rfl rfl)
theorem dJ1_size_1 : decode cJ1_size 1 = .ok (.getfield 20, 3) := dk_180 0 20 (dk_at dksJ1_size_0 1 rfl rfl)
theorem dJ1_size_4 : decode cJ1_size 4 = .ok (.aload_n 0, 1) := dk_42 (dk_at dksJ1_size_0 4 rfl rfl)
theorem dJ1_size_5 : decode cJ1_size 5 = .ok (.getfield 24, 3) := dk_180 0 24 (dk_at dksJ1_size_0 5 rfl rfl)
theorem dJ1_size_8 : decode cJ1_size 8 = .ok (.aload_n 0, 1) := dk_42 (dk_at dksJ1_size_0 8 rfl rfl)
theorem dJ1_size_9 : decode cJ1_size 9 = .ok (.getfield 3, 3) := dk_180 0 3 (dk_at dksJ1_size_0 9 rfl rfl)
theorem dJ1_size_12 : decode cJ1_size 12 = .ok (.arraylength, 1) := dk_190 (dk_at dksJ1_size_0 12 rfl rfl)
theorem dJ1_size_13 : decode cJ1_size 13 = .ok (.invokestatic 127, 3) := dk_184 0 127 (dk_at dksJ1_size_0 13 rfl rfl)
theorem dJ1_size_16 : decode cJ1_size 16 = .ok (.ireturn, 1) := dk_172 (dk_at dksJ1_size_0 16 rfl rfl)
abbrev cJ1_sub : ByteArray := prog_51_method_9_code
def yJ1_sub : MethodName := ⟨RJ1, "sub", "(III)I"⟩
def dkwJ1_sub_0 : List UInt8 := [26, 27, 100, 89, 59, 156, 0, 7, 26, 28, 96, 59, 26, 172]
abbrev dktJ1_sub_0 : List UInt8 := dkwJ1_sub_0 ++ []
theorem dksJ1_sub_0 : cJ1_sub.data.toList.drop 0 = dktJ1_sub_0 := by decide +kernel
theorem dJ1_sub_0 : decode cJ1_sub 0 = .ok (.iload_n 0, 1) := dk_26 (dk_at dksJ1_sub_0 0 rfl rfl)
theorem dJ1_sub_1 : decode cJ1_sub 1 = .ok (.iload_n 1, 1) := dk_27 (dk_at dksJ1_sub_0 1 rfl rfl)
theorem dJ1_sub_2 : decode cJ1_sub 2 = .ok (.isub, 1) := dk_100 (dk_at dksJ1_sub_0 2 rfl rfl)
theorem dJ1_sub_3 : decode cJ1_sub 3 = .ok (.dup, 1) := dk_89 (dk_at dksJ1_sub_0 3 rfl rfl)
theorem dJ1_sub_4 : decode cJ1_sub 4 = .ok (.istore_n 0, 1) := dk_59 (dk_at dksJ1_sub_0 4 rfl rfl)
theorem dJ1_sub_5 : decode cJ1_sub 5 = .ok (.ifCond .ge 7, 3) := dk_156 0 7 (dk_at dksJ1_sub_0 5 rfl rfl)
theorem dJ1_sub_8 : decode cJ1_sub 8 = .ok (.iload_n 0, 1) := dk_26 (dk_at dksJ1_sub_0 8 rfl rfl)
theorem dJ1_sub_9 : decode cJ1_sub 9 = .ok (.iload_n 2, 1) := dk_28 (dk_at dksJ1_sub_0 9 rfl rfl)
theorem dJ1_sub_10 : decode cJ1_sub 10 = .ok (.iadd, 1) := dk_96 (dk_at dksJ1_sub_0 10 rfl rfl)
theorem dJ1_sub_11 : decode cJ1_sub 11 = .ok (.istore_n 0, 1) := dk_59 (dk_at dksJ1_sub_0 11 rfl rfl)
theorem dJ1_sub_12 : decode cJ1_sub 12 = .ok (.iload_n 0, 1) := dk_26 (dk_at dksJ1_sub_0 12 rfl rfl)
theorem dJ1_sub_13 : decode cJ1_sub 13 = .ok (.ireturn, 1) := dk_172 (dk_at dksJ1_sub_0 13 rfl rfl)
theorem q90 : (Jvm.Cond.initialized "java/util/ArrayDeque") ∈ lw_all := lw_g (lw_at lw_m1 7 rfl) rfl
theorem q242 : (Jvm.Cond.instantiable "java/util/ArrayDeque" (3 : Nat)) ∈ lw_all := lw_g (lw_at lw_m1 159 rfl) rfl
theorem q244 : (Jvm.Cond.instanceMethod ({ cls := "java/util/ArrayDeque", name := "<init>", desc := "()V" } : Jvm.MethodName)) ∈ lw_all := lw_g (lw_at lw_m1 161 rfl) rfl
theorem q245 : (Jvm.Cond.code ({ cls := "java/util/ArrayDeque", name := "<init>", desc := "()V" } : Jvm.MethodName) prog_51_method_3_code (1 : Nat) (Option.none : Option Jvm.ClassFile.FieldType)) ∈ lw_all := lw_g (lw_at lw_m1 162 rfl) rfl
theorem q246 : (Jvm.Cond.methodLink "java/util/ArrayDeque" (42 : Nat) ({ cls := "java/util/AbstractCollection", name := "<init>", desc := "()V" } : Jvm.MethodName)) ∈ lw_all := lw_g (lw_at lw_m1 163 rfl) rfl
theorem q250 : (Jvm.Cond.classLink "java/util/ArrayDeque" (47 : Nat) "java/lang/Object") ∈ lw_all := lw_g (lw_at lw_m1 167 rfl) rfl
theorem q252 : (Jvm.Cond.fieldLink "java/util/ArrayDeque" (3 : Nat) "java/util/ArrayDeque" "elements" "[Ljava/lang/Object;") ∈ lw_all := lw_g (lw_at lw_m1 169 rfl) rfl
theorem q253 : (Jvm.Cond.fieldLink "java/util/ArrayDeque" (24 : Nat) "java/util/ArrayDeque" "head" "I") ∈ lw_all := lw_g (lw_at lw_m1 170 rfl) rfl
theorem q254 : (Jvm.Cond.fieldLink "java/util/ArrayDeque" (20 : Nat) "java/util/ArrayDeque" "tail" "I") ∈ lw_all := lw_g (lw_at lw_m1 171 rfl) rfl
theorem q255 : (Jvm.Cond.lays "java/util/ArrayDeque" "java/util/ArrayDeque" "elements" "[Ljava/lang/Object;") ∈ lw_all := lw_g (lw_at lw_m1 172 rfl) rfl
theorem q256 : (Jvm.Cond.soleField "java/util/ArrayDeque" "elements") ∈ lw_all := lw_g (lw_at lw_m1 173 rfl) rfl
theorem q257 : (Jvm.Cond.lays "java/util/ArrayDeque" "java/util/ArrayDeque" "head" "I") ∈ lw_all := lw_g (lw_at lw_m1 174 rfl) rfl
theorem q258 : (Jvm.Cond.soleField "java/util/ArrayDeque" "head") ∈ lw_all := lw_g (lw_at lw_m1 175 rfl) rfl
theorem q259 : (Jvm.Cond.lays "java/util/ArrayDeque" "java/util/ArrayDeque" "tail" "I") ∈ lw_all := lw_g (lw_at lw_m1 176 rfl) rfl
theorem q260 : (Jvm.Cond.soleField "java/util/ArrayDeque" "tail") ∈ lw_all := lw_g (lw_at lw_m1 177 rfl) rfl
theorem q261 : (Jvm.Cond.superclass "java/util/ArrayDeque" "java/util/AbstractCollection") ∈ lw_all := lw_g (lw_at lw_m1 178 rfl) rfl
theorem q431 : (Jvm.Cond.instanceMethod ({ cls := "java/util/ArrayDeque", name := "addLast", desc := "(Ljava/lang/Object;)V" } : Jvm.MethodName)) ∈ lw_all := lw_g (lw_at lw_m2 108 rfl) rfl
theorem q432 : (Jvm.Cond.selects "java/util/ArrayDeque" ({ cls := "java/util/ArrayDeque", name := "addLast", desc := "(Ljava/lang/Object;)V" } : Jvm.MethodName) ({ cls := "java/util/ArrayDeque", name := "addLast", desc := "(Ljava/lang/Object;)V" } : Jvm.MethodName)) ∈ lw_all := lw_g (lw_at lw_m2 109 rfl) rfl
theorem q433 : (Jvm.Cond.code ({ cls := "java/util/ArrayDeque", name := "addLast", desc := "(Ljava/lang/Object;)V" } : Jvm.MethodName) prog_51_method_13_code (3 : Nat) (Option.none : Option Jvm.ClassFile.FieldType)) ∈ lw_all := lw_g (lw_at lw_m2 110 rfl) rfl
theorem q434 : (Jvm.Cond.classLink "java/util/ArrayDeque" (65 : Nat) "java/lang/NullPointerException") ∈ lw_all := lw_g (lw_at lw_m2 111 rfl) rfl
theorem q442 : (Jvm.Cond.methodLink "java/util/ArrayDeque" (67 : Nat) ({ cls := "java/lang/NullPointerException", name := "<init>", desc := "()V" } : Jvm.MethodName)) ∈ lw_all := lw_g (lw_at lw_m2 119 rfl) rfl
theorem q453 : (Jvm.Cond.methodLink "java/util/ArrayDeque" (74 : Nat) ({ cls := "java/util/ArrayDeque", name := "inc", desc := "(II)I" } : Jvm.MethodName)) ∈ lw_all := lw_g (lw_at lw_m2 130 rfl) rfl
theorem q454 : (Jvm.Cond.static ({ cls := "java/util/ArrayDeque", name := "inc", desc := "(II)I" } : Jvm.MethodName)) ∈ lw_all := lw_g (lw_at lw_m2 131 rfl) rfl
theorem q455 : (Jvm.Cond.code ({ cls := "java/util/ArrayDeque", name := "inc", desc := "(II)I" } : Jvm.MethodName) prog_51_method_6_code (2 : Nat) (Option.some Jvm.ClassFile.FieldType.int)) ∈ lw_all := lw_g (lw_at lw_m2 132 rfl) rfl
theorem q456 : (Jvm.Cond.methodLink "java/util/ArrayDeque" (71 : Nat) ({ cls := "java/util/ArrayDeque", name := "grow", desc := "(I)V" } : Jvm.MethodName)) ∈ lw_all := lw_g (lw_at lw_m2 133 rfl) rfl
theorem q457 : (Jvm.Cond.privateMethod ({ cls := "java/util/ArrayDeque", name := "grow", desc := "(I)V" } : Jvm.MethodName)) ∈ lw_tbl := lw_at lw_m2 134 rfl
theorem q458 : (Jvm.Cond.instanceMethod ({ cls := "java/util/ArrayDeque", name := "grow", desc := "(I)V" } : Jvm.MethodName)) ∈ lw_all := lw_g (lw_at lw_m2 135 rfl) rfl
theorem q459 : (Jvm.Cond.code ({ cls := "java/util/ArrayDeque", name := "grow", desc := "(I)V" } : Jvm.MethodName) prog_51_method_1_code (9 : Nat) (Option.none : Option Jvm.ClassFile.FieldType)) ∈ lw_all := lw_g (lw_at lw_m2 136 rfl) rfl
theorem q460 : (Jvm.Cond.constant "java/util/ArrayDeque" (9 : Nat) (2147483639 : Int32)) ∈ lw_all := lw_g (lw_at lw_m2 137 rfl) rfl
theorem q461 : (Jvm.Cond.methodLink "java/util/ArrayDeque" (10 : Nat) ({ cls := "java/util/ArrayDeque", name := "newCapacity", desc := "(II)I" } : Jvm.MethodName)) ∈ lw_all := lw_g (lw_at lw_m2 138 rfl) rfl
theorem q462 : (Jvm.Cond.privateMethod ({ cls := "java/util/ArrayDeque", name := "newCapacity", desc := "(II)I" } : Jvm.MethodName)) ∈ lw_tbl := lw_at lw_m2 139 rfl
theorem q463 : (Jvm.Cond.instanceMethod ({ cls := "java/util/ArrayDeque", name := "newCapacity", desc := "(II)I" } : Jvm.MethodName)) ∈ lw_all := lw_g (lw_at lw_m2 140 rfl) rfl
theorem q464 : (Jvm.Cond.code ({ cls := "java/util/ArrayDeque", name := "newCapacity", desc := "(II)I" } : Jvm.MethodName) prog_51_method_2_code (5 : Nat) (Option.some Jvm.ClassFile.FieldType.int)) ∈ lw_all := lw_g (lw_at lw_m2 141 rfl) rfl
theorem q465 : (Jvm.Cond.classLink "java/util/ArrayDeque" (33 : Nat) "java/lang/IllegalStateException") ∈ lw_all := lw_g (lw_at lw_m2 142 rfl) rfl
theorem q474 : (Jvm.Cond.stringRef "java/util/ArrayDeque" (35 : Nat) "Sorry, deque too big") ∈ lw_tbl := lw_at lw_m2 151 rfl
theorem q475 : (Jvm.Cond.methodLink "java/util/ArrayDeque" (37 : Nat) ({ cls := "java/lang/IllegalStateException", name := "<init>", desc := "(Ljava/lang/String;)V" } : Jvm.MethodName)) ∈ lw_all := lw_g (lw_at lw_m2 152 rfl) rfl
theorem q489 : (Jvm.Cond.constant "java/util/ArrayDeque" (41 : Nat) (2147483647 : Int32)) ∈ lw_all := lw_g (lw_at lw_m2 166 rfl) rfl
theorem q490 : (Jvm.Cond.methodLink "java/util/ArrayDeque" (14 : Nat) ({ cls := "java/util/Arrays", name := "copyOf", desc := "([Ljava/lang/Object;I)[Ljava/lang/Object;" } : Jvm.MethodName)) ∈ lw_all := lw_g (lw_at lw_m2 167 rfl) rfl
theorem q522 : (Jvm.Cond.selects "java/util/ArrayDeque" ({ cls := "java/lang/Object", name := "getClass", desc := "()Ljava/lang/Class;" } : Jvm.MethodName) ({ cls := "java/lang/Object", name := "getClass", desc := "()Ljava/lang/Class;" } : Jvm.MethodName)) ∈ lw_all := lw_g (lw_at lw_m2 199 rfl) rfl
theorem q542 : (Jvm.Cond.methodLink "java/util/ArrayDeque" (27 : Nat) ({ cls := "java/lang/System", name := "arraycopy", desc := "(Ljava/lang/Object;ILjava/lang/Object;II)V" } : Jvm.MethodName)) ∈ lw_all := lw_g (lw_at lw_m2 219 rfl) rfl
theorem q711 : (Jvm.Cond.instanceMethod ({ cls := "java/util/ArrayDeque", name := "isEmpty", desc := "()Z" } : Jvm.MethodName)) ∈ lw_all := lw_g (lw_at lw_m3 148 rfl) rfl
theorem q712 : (Jvm.Cond.selects "java/util/ArrayDeque" ({ cls := "java/util/ArrayDeque", name := "isEmpty", desc := "()Z" } : Jvm.MethodName) ({ cls := "java/util/ArrayDeque", name := "isEmpty", desc := "()Z" } : Jvm.MethodName)) ∈ lw_all := lw_g (lw_at lw_m3 149 rfl) rfl
theorem q713 : (Jvm.Cond.code ({ cls := "java/util/ArrayDeque", name := "isEmpty", desc := "()Z" } : Jvm.MethodName) prog_51_method_38_code (1 : Nat) (Option.some Jvm.ClassFile.FieldType.boolean)) ∈ lw_all := lw_g (lw_at lw_m3 150 rfl) rfl
theorem q715 : (Jvm.Cond.instanceMethod ({ cls := "java/util/ArrayDeque", name := "pollFirst", desc := "()Ljava/lang/Object;" } : Jvm.MethodName)) ∈ lw_all := lw_g (lw_at lw_m3 152 rfl) rfl
theorem q716 : (Jvm.Cond.selects "java/util/ArrayDeque" ({ cls := "java/util/ArrayDeque", name := "pollFirst", desc := "()Ljava/lang/Object;" } : Jvm.MethodName) ({ cls := "java/util/ArrayDeque", name := "pollFirst", desc := "()Ljava/lang/Object;" } : Jvm.MethodName)) ∈ lw_all := lw_g (lw_at lw_m3 153 rfl) rfl
theorem q717 : (Jvm.Cond.code ({ cls := "java/util/ArrayDeque", name := "pollFirst", desc := "()Ljava/lang/Object;" } : Jvm.MethodName) prog_51_method_20_code (4 : Nat) (Option.some (Jvm.ClassFile.FieldType.object "java/lang/Object"))) ∈ lw_all := lw_g (lw_at lw_m3 154 rfl) rfl
theorem q718 : (Jvm.Cond.methodLink "java/util/ArrayDeque" (103 : Nat) ({ cls := "java/util/ArrayDeque", name := "elementAt", desc := "([Ljava/lang/Object;I)Ljava/lang/Object;" } : Jvm.MethodName)) ∈ lw_all := lw_g (lw_at lw_m3 155 rfl) rfl
theorem q719 : (Jvm.Cond.static ({ cls := "java/util/ArrayDeque", name := "elementAt", desc := "([Ljava/lang/Object;I)Ljava/lang/Object;" } : Jvm.MethodName)) ∈ lw_all := lw_g (lw_at lw_m3 156 rfl) rfl
theorem q720 : (Jvm.Cond.code ({ cls := "java/util/ArrayDeque", name := "elementAt", desc := "([Ljava/lang/Object;I)Ljava/lang/Object;" } : Jvm.MethodName) prog_51_method_10_code (2 : Nat) (Option.some (Jvm.ClassFile.FieldType.object "java/lang/Object"))) ∈ lw_all := lw_g (lw_at lw_m3 157 rfl) rfl
theorem q2215 : (Jvm.Cond.instanceMethod ({ cls := "java/util/ArrayDeque", name := "pollLast", desc := "()Ljava/lang/Object;" } : Jvm.MethodName)) ∈ lw_all := lw_g (lw_at lw_m9 212 rfl) rfl
theorem q2216 : (Jvm.Cond.selects "java/util/ArrayDeque" ({ cls := "java/util/ArrayDeque", name := "pollLast", desc := "()Ljava/lang/Object;" } : Jvm.MethodName) ({ cls := "java/util/ArrayDeque", name := "pollLast", desc := "()Ljava/lang/Object;" } : Jvm.MethodName)) ∈ lw_all := lw_g (lw_at lw_m9 213 rfl) rfl
theorem q2217 : (Jvm.Cond.code ({ cls := "java/util/ArrayDeque", name := "pollLast", desc := "()Ljava/lang/Object;" } : Jvm.MethodName) prog_51_method_21_code (4 : Nat) (Option.some (Jvm.ClassFile.FieldType.object "java/lang/Object"))) ∈ lw_all := lw_g (lw_at lw_m9 214 rfl) rfl
theorem q2218 : (Jvm.Cond.methodLink "java/util/ArrayDeque" (68 : Nat) ({ cls := "java/util/ArrayDeque", name := "dec", desc := "(II)I" } : Jvm.MethodName)) ∈ lw_all := lw_g (lw_at lw_m9 215 rfl) rfl
theorem q2219 : (Jvm.Cond.static ({ cls := "java/util/ArrayDeque", name := "dec", desc := "(II)I" } : Jvm.MethodName)) ∈ lw_all := lw_g (lw_at lw_m9 216 rfl) rfl
theorem q2220 : (Jvm.Cond.code ({ cls := "java/util/ArrayDeque", name := "dec", desc := "(II)I" } : Jvm.MethodName) prog_51_method_7_code (2 : Nat) (Option.some Jvm.ClassFile.FieldType.int)) ∈ lw_all := lw_g (lw_at lw_m9 217 rfl) rfl
theorem q2222 : (Jvm.Cond.instanceMethod ({ cls := "java/util/ArrayDeque", name := "size", desc := "()I" } : Jvm.MethodName)) ∈ lw_all := lw_g (lw_at lw_m9 219 rfl) rfl
theorem q2223 : (Jvm.Cond.selects "java/util/ArrayDeque" ({ cls := "java/util/ArrayDeque", name := "size", desc := "()I" } : Jvm.MethodName) ({ cls := "java/util/ArrayDeque", name := "size", desc := "()I" } : Jvm.MethodName)) ∈ lw_all := lw_g (lw_at lw_m9 220 rfl) rfl
theorem q2224 : (Jvm.Cond.code ({ cls := "java/util/ArrayDeque", name := "size", desc := "()I" } : Jvm.MethodName) prog_51_method_37_code (1 : Nat) (Option.some Jvm.ClassFile.FieldType.int)) ∈ lw_all := lw_g (lw_at lw_m9 221 rfl) rfl
theorem q2225 : (Jvm.Cond.methodLink "java/util/ArrayDeque" (127 : Nat) ({ cls := "java/util/ArrayDeque", name := "sub", desc := "(III)I" } : Jvm.MethodName)) ∈ lw_all := lw_g (lw_at lw_m9 222 rfl) rfl
theorem q2226 : (Jvm.Cond.static ({ cls := "java/util/ArrayDeque", name := "sub", desc := "(III)I" } : Jvm.MethodName)) ∈ lw_all := lw_g (lw_at lw_m9 223 rfl) rfl
theorem q2227 : (Jvm.Cond.code ({ cls := "java/util/ArrayDeque", name := "sub", desc := "(III)I" } : Jvm.MethodName) prog_51_method_9_code (3 : Nat) (Option.some Jvm.ClassFile.FieldType.int)) ∈ lw_all := lw_g (lw_at lw_m9 224 rfl) rfl
theorem q2790 : (Jvm.Cond.castable "java/util/ArrayDeque" "java/lang/Object") ∈ lw_tbl := lw_at lw_m12 67 rfl
theorem in_J1 : ∀ w ∈ wsJ10, w ∈ lw_all := lw_in wsJ10 [255, 257, 259] (by decide +kernel) (by decide +kernel)
/-! java/lang/AbstractStringBuilder -/
set_option maxRecDepth 100000
def RJ2 : String := "java/lang/AbstractStringBuilder"
abbrev cJ2_init : ByteArray := prog_14_method_2_code
def yJ2_init : MethodName := ⟨RJ2, "<init>", "(I)V"⟩
def dkwJ2_init_1 : List UInt8 := [167, 0, 16, 42, 27, 184, 0, 26, 181, 0, 15, 42, 4, 181, 0, 22, 177]
abbrev dktJ2_init_1 : List UInt8 := dkwJ2_init_1 ++ []
def dkwJ2_init_0 : List UInt8 := [42, 183, 0, 3, 178, 0, 18, 153, 0, 18, 42, 27, 188, 8, 181, 0, 15, 42, 3, 181, 0, 22]
abbrev dktJ2_init_0 : List UInt8 := dkwJ2_init_0 ++ dktJ2_init_1
theorem dksJ2_init_0 : cJ2_init.data.toList.drop 0 = dktJ2_init_0 := by decide +kernel
theorem dksJ2_init_1 : cJ2_init.data.toList.drop 22 = dktJ2_init_1 := dk_seg dksJ2_init_0 22 rfl rfl
theorem dJ2_init_0 : decode cJ2_init 0 = .ok (.aload_n 0, 1) := dk_42 (dk_at dksJ2_init_0 0 rfl rfl)
theorem dJ2_init_1 : decode cJ2_init 1 = .ok (.invokespecial 3, 3) := dk_183 0 3 (dk_at dksJ2_init_0 1 rfl rfl)
theorem dJ2_init_4 : decode cJ2_init 4 = .ok (.getstatic 18, 3) := dk_178 0 18 (dk_at dksJ2_init_0 4 rfl rfl)
theorem dJ2_init_7 : decode cJ2_init 7 = .ok (.ifCond .eq 18, 3) := dk_153 0 18 (dk_at dksJ2_init_0 7 rfl rfl)
theorem dJ2_init_10 : decode cJ2_init 10 = .ok (.aload_n 0, 1) := dk_42 (dk_at dksJ2_init_0 10 rfl rfl)
theorem dJ2_init_11 : decode cJ2_init 11 = .ok (.iload_n 1, 1) := dk_27 (dk_at dksJ2_init_0 11 rfl rfl)
theorem dJ2_init_12 : decode cJ2_init 12 = .ok (.newarray .byte, 2) := dk_188_8 (dk_at dksJ2_init_0 12 rfl rfl)
theorem dJ2_init_14 : decode cJ2_init 14 = .ok (.putfield 15, 3) := dk_181 0 15 (dk_at dksJ2_init_0 14 rfl rfl)
theorem dJ2_init_17 : decode cJ2_init 17 = .ok (.aload_n 0, 1) := dk_42 (dk_at dksJ2_init_0 17 rfl rfl)
theorem dJ2_init_18 : decode cJ2_init 18 = .ok (.iconst 0, 1) := dk_3 (dk_at dksJ2_init_0 18 rfl rfl)
theorem dJ2_init_19 : decode cJ2_init 19 = .ok (.putfield 22, 3) := dk_181 0 22 (dk_at dksJ2_init_0 19 rfl rfl)
theorem dJ2_init_22 : decode cJ2_init 22 = .ok (.goto 16, 3) := dk_167 0 16 (dk_at dksJ2_init_1 0 rfl rfl)
theorem dJ2_init_25 : decode cJ2_init 25 = .ok (.aload_n 0, 1) := dk_42 (dk_at dksJ2_init_1 3 rfl rfl)
theorem dJ2_init_26 : decode cJ2_init 26 = .ok (.iload_n 1, 1) := dk_27 (dk_at dksJ2_init_1 4 rfl rfl)
theorem dJ2_init_27 : decode cJ2_init 27 = .ok (.invokestatic 26, 3) := dk_184 0 26 (dk_at dksJ2_init_1 5 rfl rfl)
theorem dJ2_init_30 : decode cJ2_init 30 = .ok (.putfield 15, 3) := dk_181 0 15 (dk_at dksJ2_init_1 8 rfl rfl)
theorem dJ2_init_33 : decode cJ2_init 33 = .ok (.aload_n 0, 1) := dk_42 (dk_at dksJ2_init_1 11 rfl rfl)
theorem dJ2_init_34 : decode cJ2_init 34 = .ok (.iconst 1, 1) := dk_4 (dk_at dksJ2_init_1 12 rfl rfl)
theorem dJ2_init_35 : decode cJ2_init 35 = .ok (.putfield 22, 3) := dk_181 0 22 (dk_at dksJ2_init_1 13 rfl rfl)
theorem dJ2_init_38 : decode cJ2_init 38 = .ok (.return_, 1) := dk_177 (dk_at dksJ2_init_1 16 rfl rfl)
abbrev cJ2_setLength : ByteArray := prog_14_method_13_code
def yJ2_setLength : MethodName := ⟨RJ2, "setLength", "(I)V"⟩
def dkwJ2_setLength_3 : List UInt8 := [164, 0, 8, 42, 4, 181, 0, 73, 42, 27, 181, 0, 79, 177]
abbrev dktJ2_setLength_3 : List UInt8 := dkwJ2_setLength_3 ++ []
def dkwJ2_setLength_2 : List UInt8 := [167, 0, 31, 42, 180, 0, 15, 42, 180, 0, 79, 27, 184, 0, 137, 167, 0, 16, 42, 180, 0, 79, 27]
abbrev dktJ2_setLength_2 : List UInt8 := dkwJ2_setLength_2 ++ dktJ2_setLength_3
def dkwJ2_setLength_1 : List UInt8 := [162, 0, 40, 42, 182, 0, 83, 153, 0, 18, 42, 180, 0, 15, 42, 180, 0, 79, 27, 184, 0, 133]
abbrev dktJ2_setLength_1 : List UInt8 := dkwJ2_setLength_1 ++ dktJ2_setLength_2
def dkwJ2_setLength_0 : List UInt8 := [27, 156, 0, 12, 187, 0, 129, 89, 27, 183, 0, 131, 191, 42, 27, 182, 0, 100, 42, 180, 0, 79, 27]
abbrev dktJ2_setLength_0 : List UInt8 := dkwJ2_setLength_0 ++ dktJ2_setLength_1
theorem dksJ2_setLength_0 : cJ2_setLength.data.toList.drop 0 = dktJ2_setLength_0 := by decide +kernel
theorem dksJ2_setLength_1 : cJ2_setLength.data.toList.drop 23 = dktJ2_setLength_1 := dk_seg dksJ2_setLength_0 23 rfl rfl
theorem dksJ2_setLength_2 : cJ2_setLength.data.toList.drop 45 = dktJ2_setLength_2 := dk_seg dksJ2_setLength_1 22 rfl rfl
theorem dksJ2_setLength_3 : cJ2_setLength.data.toList.drop 68 = dktJ2_setLength_3 := dk_seg dksJ2_setLength_2 23 rfl rfl
theorem dJ2_setLength_0 : decode cJ2_setLength 0 = .ok (.iload_n 1, 1) := dk_27 (dk_at dksJ2_setLength_0 0 rfl rfl)
theorem dJ2_setLength_1 : decode cJ2_setLength 1 = .ok (.ifCond .ge 12, 3) := dk_156 0 12 (dk_at dksJ2_setLength_0 1 rfl rfl)
theorem dJ2_setLength_4 : decode cJ2_setLength 4 = .ok (.new 129, 3) := dk_187 0 129 (dk_at dksJ2_setLength_0 4 rfl rfl)
theorem dJ2_setLength_7 : decode cJ2_setLength 7 = .ok (.dup, 1) := dk_89 (dk_at dksJ2_setLength_0 7 rfl rfl)
theorem dJ2_setLength_8 : decode cJ2_setLength 8 = .ok (.iload_n 1, 1) := dk_27 (dk_at dksJ2_setLength_0 8 rfl rfl)
theorem dJ2_setLength_9 : decode cJ2_setLength 9 = .ok (.invokespecial 131, 3) := dk_183 0 131 (dk_at dksJ2_setLength_0 9 rfl rfl)
theorem dJ2_setLength_12 : decode cJ2_setLength 12 = .ok (.athrow, 1) := dk_191 (dk_at dksJ2_setLength_0 12 rfl rfl)
theorem dJ2_setLength_13 : decode cJ2_setLength 13 = .ok (.aload_n 0, 1) := dk_42 (dk_at dksJ2_setLength_0 13 rfl rfl)
theorem dJ2_setLength_14 : decode cJ2_setLength 14 = .ok (.iload_n 1, 1) := dk_27 (dk_at dksJ2_setLength_0 14 rfl rfl)
theorem dJ2_setLength_15 : decode cJ2_setLength 15 = .ok (.invokevirtual 100, 3) := dk_182 0 100 (dk_at dksJ2_setLength_0 15 rfl rfl)
theorem dJ2_setLength_18 : decode cJ2_setLength 18 = .ok (.aload_n 0, 1) := dk_42 (dk_at dksJ2_setLength_0 18 rfl rfl)
theorem dJ2_setLength_19 : decode cJ2_setLength 19 = .ok (.getfield 79, 3) := dk_180 0 79 (dk_at dksJ2_setLength_0 19 rfl rfl)
theorem dJ2_setLength_22 : decode cJ2_setLength 22 = .ok (.iload_n 1, 1) := dk_27 (dk_at dksJ2_setLength_0 22 rfl rfl)
theorem dJ2_setLength_23 : decode cJ2_setLength 23 = .ok (.if_icmp .ge 40, 3) := dk_162 0 40 (dk_at dksJ2_setLength_1 0 rfl rfl)
theorem dJ2_setLength_26 : decode cJ2_setLength 26 = .ok (.aload_n 0, 1) := dk_42 (dk_at dksJ2_setLength_1 3 rfl rfl)
theorem dJ2_setLength_27 : decode cJ2_setLength 27 = .ok (.invokevirtual 83, 3) := dk_182 0 83 (dk_at dksJ2_setLength_1 4 rfl rfl)
theorem dJ2_setLength_30 : decode cJ2_setLength 30 = .ok (.ifCond .eq 18, 3) := dk_153 0 18 (dk_at dksJ2_setLength_1 7 rfl rfl)
theorem dJ2_setLength_33 : decode cJ2_setLength 33 = .ok (.aload_n 0, 1) := dk_42 (dk_at dksJ2_setLength_1 10 rfl rfl)
theorem dJ2_setLength_34 : decode cJ2_setLength 34 = .ok (.getfield 15, 3) := dk_180 0 15 (dk_at dksJ2_setLength_1 11 rfl rfl)
theorem dJ2_setLength_37 : decode cJ2_setLength 37 = .ok (.aload_n 0, 1) := dk_42 (dk_at dksJ2_setLength_1 14 rfl rfl)
theorem dJ2_setLength_38 : decode cJ2_setLength 38 = .ok (.getfield 79, 3) := dk_180 0 79 (dk_at dksJ2_setLength_1 15 rfl rfl)
theorem dJ2_setLength_41 : decode cJ2_setLength 41 = .ok (.iload_n 1, 1) := dk_27 (dk_at dksJ2_setLength_1 18 rfl rfl)
theorem dJ2_setLength_42 : decode cJ2_setLength 42 = .ok (.invokestatic 133, 3) := dk_184 0 133 (dk_at dksJ2_setLength_1 19 rfl rfl)
theorem dJ2_setLength_45 : decode cJ2_setLength 45 = .ok (.goto 31, 3) := dk_167 0 31 (dk_at dksJ2_setLength_2 0 rfl rfl)
theorem dJ2_setLength_48 : decode cJ2_setLength 48 = .ok (.aload_n 0, 1) := dk_42 (dk_at dksJ2_setLength_2 3 rfl rfl)
theorem dJ2_setLength_49 : decode cJ2_setLength 49 = .ok (.getfield 15, 3) := dk_180 0 15 (dk_at dksJ2_setLength_2 4 rfl rfl)
theorem dJ2_setLength_52 : decode cJ2_setLength 52 = .ok (.aload_n 0, 1) := dk_42 (dk_at dksJ2_setLength_2 7 rfl rfl)
theorem dJ2_setLength_53 : decode cJ2_setLength 53 = .ok (.getfield 79, 3) := dk_180 0 79 (dk_at dksJ2_setLength_2 8 rfl rfl)
theorem dJ2_setLength_56 : decode cJ2_setLength 56 = .ok (.iload_n 1, 1) := dk_27 (dk_at dksJ2_setLength_2 11 rfl rfl)
theorem dJ2_setLength_57 : decode cJ2_setLength 57 = .ok (.invokestatic 137, 3) := dk_184 0 137 (dk_at dksJ2_setLength_2 12 rfl rfl)
theorem dJ2_setLength_60 : decode cJ2_setLength 60 = .ok (.goto 16, 3) := dk_167 0 16 (dk_at dksJ2_setLength_2 15 rfl rfl)
theorem dJ2_setLength_63 : decode cJ2_setLength 63 = .ok (.aload_n 0, 1) := dk_42 (dk_at dksJ2_setLength_2 18 rfl rfl)
theorem dJ2_setLength_64 : decode cJ2_setLength 64 = .ok (.getfield 79, 3) := dk_180 0 79 (dk_at dksJ2_setLength_2 19 rfl rfl)
theorem dJ2_setLength_67 : decode cJ2_setLength 67 = .ok (.iload_n 1, 1) := dk_27 (dk_at dksJ2_setLength_2 22 rfl rfl)
theorem dJ2_setLength_68 : decode cJ2_setLength 68 = .ok (.if_icmp .le 8, 3) := dk_164 0 8 (dk_at dksJ2_setLength_3 0 rfl rfl)
theorem dJ2_setLength_71 : decode cJ2_setLength 71 = .ok (.aload_n 0, 1) := dk_42 (dk_at dksJ2_setLength_3 3 rfl rfl)
theorem dJ2_setLength_72 : decode cJ2_setLength 72 = .ok (.iconst 1, 1) := dk_4 (dk_at dksJ2_setLength_3 4 rfl rfl)
theorem dJ2_setLength_73 : decode cJ2_setLength 73 = .ok (.putfield 73, 3) := dk_181 0 73 (dk_at dksJ2_setLength_3 5 rfl rfl)
theorem dJ2_setLength_76 : decode cJ2_setLength 76 = .ok (.aload_n 0, 1) := dk_42 (dk_at dksJ2_setLength_3 8 rfl rfl)
theorem dJ2_setLength_77 : decode cJ2_setLength 77 = .ok (.iload_n 1, 1) := dk_27 (dk_at dksJ2_setLength_3 9 rfl rfl)
theorem dJ2_setLength_78 : decode cJ2_setLength 78 = .ok (.putfield 79, 3) := dk_181 0 79 (dk_at dksJ2_setLength_3 10 rfl rfl)
theorem dJ2_setLength_81 : decode cJ2_setLength 81 = .ok (.return_, 1) := dk_177 (dk_at dksJ2_setLength_3 13 rfl rfl)
abbrev cJ2_append : ByteArray := prog_14_method_22_code
def yJ2_append : MethodName := ⟨RJ2, "append", "(Ljava/lang/String;)Ljava/lang/AbstractStringBuilder;"⟩
def dkwJ2_append_1 : List UInt8 := [42, 42, 180, 0, 79, 43, 182, 0, 208, 42, 89, 180, 0, 79, 28, 96, 181, 0, 79, 42, 176]
abbrev dktJ2_append_1 : List UInt8 := dkwJ2_append_1 ++ []
def dkwJ2_append_0 : List UInt8 := [43, 199, 0, 8, 42, 182, 0, 204, 176, 43, 182, 0, 32, 61, 42, 42, 180, 0, 79, 28, 96, 182, 0, 100]
abbrev dktJ2_append_0 : List UInt8 := dkwJ2_append_0 ++ dktJ2_append_1
theorem dksJ2_append_0 : cJ2_append.data.toList.drop 0 = dktJ2_append_0 := by decide +kernel
theorem dksJ2_append_1 : cJ2_append.data.toList.drop 24 = dktJ2_append_1 := dk_seg dksJ2_append_0 24 rfl rfl
theorem dJ2_append_0 : decode cJ2_append 0 = .ok (.aload_n 1, 1) := dk_43 (dk_at dksJ2_append_0 0 rfl rfl)
theorem dJ2_append_1 : decode cJ2_append 1 = .ok (.ifnonnull 8, 3) := dk_199 0 8 (dk_at dksJ2_append_0 1 rfl rfl)
theorem dJ2_append_4 : decode cJ2_append 4 = .ok (.aload_n 0, 1) := dk_42 (dk_at dksJ2_append_0 4 rfl rfl)
theorem dJ2_append_5 : decode cJ2_append 5 = .ok (.invokevirtual 204, 3) := dk_182 0 204 (dk_at dksJ2_append_0 5 rfl rfl)
theorem dJ2_append_8 : decode cJ2_append 8 = .ok (.areturn, 1) := dk_176 (dk_at dksJ2_append_0 8 rfl rfl)
theorem dJ2_append_9 : decode cJ2_append 9 = .ok (.aload_n 1, 1) := dk_43 (dk_at dksJ2_append_0 9 rfl rfl)
theorem dJ2_append_10 : decode cJ2_append 10 = .ok (.invokevirtual 32, 3) := dk_182 0 32 (dk_at dksJ2_append_0 10 rfl rfl)
theorem dJ2_append_13 : decode cJ2_append 13 = .ok (.istore_n 2, 1) := dk_61 (dk_at dksJ2_append_0 13 rfl rfl)
theorem dJ2_append_14 : decode cJ2_append 14 = .ok (.aload_n 0, 1) := dk_42 (dk_at dksJ2_append_0 14 rfl rfl)
theorem dJ2_append_15 : decode cJ2_append 15 = .ok (.aload_n 0, 1) := dk_42 (dk_at dksJ2_append_0 15 rfl rfl)
theorem dJ2_append_16 : decode cJ2_append 16 = .ok (.getfield 79, 3) := dk_180 0 79 (dk_at dksJ2_append_0 16 rfl rfl)
theorem dJ2_append_19 : decode cJ2_append 19 = .ok (.iload_n 2, 1) := dk_28 (dk_at dksJ2_append_0 19 rfl rfl)
theorem dJ2_append_20 : decode cJ2_append 20 = .ok (.iadd, 1) := dk_96 (dk_at dksJ2_append_0 20 rfl rfl)
theorem dJ2_append_21 : decode cJ2_append 21 = .ok (.invokevirtual 100, 3) := dk_182 0 100 (dk_at dksJ2_append_0 21 rfl rfl)
theorem dJ2_append_24 : decode cJ2_append 24 = .ok (.aload_n 0, 1) := dk_42 (dk_at dksJ2_append_1 0 rfl rfl)
theorem dJ2_append_25 : decode cJ2_append 25 = .ok (.aload_n 0, 1) := dk_42 (dk_at dksJ2_append_1 1 rfl rfl)
theorem dJ2_append_26 : decode cJ2_append 26 = .ok (.getfield 79, 3) := dk_180 0 79 (dk_at dksJ2_append_1 2 rfl rfl)
theorem dJ2_append_29 : decode cJ2_append 29 = .ok (.aload_n 1, 1) := dk_43 (dk_at dksJ2_append_1 5 rfl rfl)
theorem dJ2_append_30 : decode cJ2_append 30 = .ok (.invokevirtual 208, 3) := dk_182 0 208 (dk_at dksJ2_append_1 6 rfl rfl)
theorem dJ2_append_33 : decode cJ2_append 33 = .ok (.aload_n 0, 1) := dk_42 (dk_at dksJ2_append_1 9 rfl rfl)
theorem dJ2_append_34 : decode cJ2_append 34 = .ok (.dup, 1) := dk_89 (dk_at dksJ2_append_1 10 rfl rfl)
theorem dJ2_append_35 : decode cJ2_append 35 = .ok (.getfield 79, 3) := dk_180 0 79 (dk_at dksJ2_append_1 11 rfl rfl)
theorem dJ2_append_38 : decode cJ2_append 38 = .ok (.iload_n 2, 1) := dk_28 (dk_at dksJ2_append_1 14 rfl rfl)
theorem dJ2_append_39 : decode cJ2_append 39 = .ok (.iadd, 1) := dk_96 (dk_at dksJ2_append_1 15 rfl rfl)
theorem dJ2_append_40 : decode cJ2_append 40 = .ok (.putfield 79, 3) := dk_181 0 79 (dk_at dksJ2_append_1 16 rfl rfl)
theorem dJ2_append_43 : decode cJ2_append 43 = .ok (.aload_n 0, 1) := dk_42 (dk_at dksJ2_append_1 19 rfl rfl)
theorem dJ2_append_44 : decode cJ2_append 44 = .ok (.areturn, 1) := dk_176 (dk_at dksJ2_append_1 20 rfl rfl)
abbrev cJ2_appendNull : ByteArray := prog_14_method_26_code
def yJ2_appendNull : MethodName := ⟨RJ2, "appendNull", "()Ljava/lang/AbstractStringBuilder;"⟩
def dkwJ2_appendNull_3 : List UInt8 := [184, 0, 226, 60, 42, 27, 181, 0, 79, 42, 176]
abbrev dktJ2_appendNull_3 : List UInt8 := dkwJ2_appendNull_3 ++ []
def dkwJ2_appendNull_2 : List UInt8 := [16, 108, 84, 44, 27, 132, 1, 1, 16, 108, 84, 167, 0, 17, 44, 27, 16, 110, 16, 117, 16, 108, 16, 108]
abbrev dktJ2_appendNull_2 : List UInt8 := dkwJ2_appendNull_2 ++ dktJ2_appendNull_3
def dkwJ2_appendNull_1 : List UInt8 := [153, 0, 38, 44, 27, 132, 1, 1, 16, 110, 84, 44, 27, 132, 1, 1, 16, 117, 84, 44, 27, 132, 1, 1]
abbrev dktJ2_appendNull_1 : List UInt8 := dkwJ2_appendNull_1 ++ dktJ2_appendNull_2
def dkwJ2_appendNull_0 : List UInt8 := [42, 42, 180, 0, 79, 7, 96, 182, 0, 100, 42, 180, 0, 79, 60, 42, 180, 0, 15, 77, 42, 182, 0, 83]
abbrev dktJ2_appendNull_0 : List UInt8 := dkwJ2_appendNull_0 ++ dktJ2_appendNull_1
theorem dksJ2_appendNull_0 : cJ2_appendNull.data.toList.drop 0 = dktJ2_appendNull_0 := by decide +kernel
theorem dksJ2_appendNull_1 : cJ2_appendNull.data.toList.drop 24 = dktJ2_appendNull_1 := dk_seg dksJ2_appendNull_0 24 rfl rfl
theorem dksJ2_appendNull_2 : cJ2_appendNull.data.toList.drop 48 = dktJ2_appendNull_2 := dk_seg dksJ2_appendNull_1 24 rfl rfl
theorem dksJ2_appendNull_3 : cJ2_appendNull.data.toList.drop 72 = dktJ2_appendNull_3 := dk_seg dksJ2_appendNull_2 24 rfl rfl
theorem dJ2_appendNull_0 : decode cJ2_appendNull 0 = .ok (.aload_n 0, 1) := dk_42 (dk_at dksJ2_appendNull_0 0 rfl rfl)
theorem dJ2_appendNull_1 : decode cJ2_appendNull 1 = .ok (.aload_n 0, 1) := dk_42 (dk_at dksJ2_appendNull_0 1 rfl rfl)
theorem dJ2_appendNull_2 : decode cJ2_appendNull 2 = .ok (.getfield 79, 3) := dk_180 0 79 (dk_at dksJ2_appendNull_0 2 rfl rfl)
theorem dJ2_appendNull_5 : decode cJ2_appendNull 5 = .ok (.iconst 4, 1) := dk_7 (dk_at dksJ2_appendNull_0 5 rfl rfl)
theorem dJ2_appendNull_6 : decode cJ2_appendNull 6 = .ok (.iadd, 1) := dk_96 (dk_at dksJ2_appendNull_0 6 rfl rfl)
theorem dJ2_appendNull_7 : decode cJ2_appendNull 7 = .ok (.invokevirtual 100, 3) := dk_182 0 100 (dk_at dksJ2_appendNull_0 7 rfl rfl)
theorem dJ2_appendNull_10 : decode cJ2_appendNull 10 = .ok (.aload_n 0, 1) := dk_42 (dk_at dksJ2_appendNull_0 10 rfl rfl)
theorem dJ2_appendNull_11 : decode cJ2_appendNull 11 = .ok (.getfield 79, 3) := dk_180 0 79 (dk_at dksJ2_appendNull_0 11 rfl rfl)
theorem dJ2_appendNull_14 : decode cJ2_appendNull 14 = .ok (.istore_n 1, 1) := dk_60 (dk_at dksJ2_appendNull_0 14 rfl rfl)
theorem dJ2_appendNull_15 : decode cJ2_appendNull 15 = .ok (.aload_n 0, 1) := dk_42 (dk_at dksJ2_appendNull_0 15 rfl rfl)
theorem dJ2_appendNull_16 : decode cJ2_appendNull 16 = .ok (.getfield 15, 3) := dk_180 0 15 (dk_at dksJ2_appendNull_0 16 rfl rfl)
theorem dJ2_appendNull_19 : decode cJ2_appendNull 19 = .ok (.astore_n 2, 1) := dk_77 (dk_at dksJ2_appendNull_0 19 rfl rfl)
theorem dJ2_appendNull_20 : decode cJ2_appendNull 20 = .ok (.aload_n 0, 1) := dk_42 (dk_at dksJ2_appendNull_0 20 rfl rfl)
theorem dJ2_appendNull_21 : decode cJ2_appendNull 21 = .ok (.invokevirtual 83, 3) := dk_182 0 83 (dk_at dksJ2_appendNull_0 21 rfl rfl)
theorem dJ2_appendNull_24 : decode cJ2_appendNull 24 = .ok (.ifCond .eq 38, 3) := dk_153 0 38 (dk_at dksJ2_appendNull_1 0 rfl rfl)
theorem dJ2_appendNull_27 : decode cJ2_appendNull 27 = .ok (.aload_n 2, 1) := dk_44 (dk_at dksJ2_appendNull_1 3 rfl rfl)
theorem dJ2_appendNull_28 : decode cJ2_appendNull 28 = .ok (.iload_n 1, 1) := dk_27 (dk_at dksJ2_appendNull_1 4 rfl rfl)
theorem dJ2_appendNull_29 : decode cJ2_appendNull 29 = .ok (.iinc 1 1, 3) := dk_132 1 1 (dk_at dksJ2_appendNull_1 5 rfl rfl)
theorem dJ2_appendNull_32 : decode cJ2_appendNull 32 = .ok (.bipush 110, 2) := dk_16 110 (dk_at dksJ2_appendNull_1 8 rfl rfl)
theorem dJ2_appendNull_34 : decode cJ2_appendNull 34 = .ok (.bastore, 1) := dk_84 (dk_at dksJ2_appendNull_1 10 rfl rfl)
theorem dJ2_appendNull_35 : decode cJ2_appendNull 35 = .ok (.aload_n 2, 1) := dk_44 (dk_at dksJ2_appendNull_1 11 rfl rfl)
theorem dJ2_appendNull_36 : decode cJ2_appendNull 36 = .ok (.iload_n 1, 1) := dk_27 (dk_at dksJ2_appendNull_1 12 rfl rfl)
theorem dJ2_appendNull_37 : decode cJ2_appendNull 37 = .ok (.iinc 1 1, 3) := dk_132 1 1 (dk_at dksJ2_appendNull_1 13 rfl rfl)
theorem dJ2_appendNull_40 : decode cJ2_appendNull 40 = .ok (.bipush 117, 2) := dk_16 117 (dk_at dksJ2_appendNull_1 16 rfl rfl)
theorem dJ2_appendNull_42 : decode cJ2_appendNull 42 = .ok (.bastore, 1) := dk_84 (dk_at dksJ2_appendNull_1 18 rfl rfl)
theorem dJ2_appendNull_43 : decode cJ2_appendNull 43 = .ok (.aload_n 2, 1) := dk_44 (dk_at dksJ2_appendNull_1 19 rfl rfl)
theorem dJ2_appendNull_44 : decode cJ2_appendNull 44 = .ok (.iload_n 1, 1) := dk_27 (dk_at dksJ2_appendNull_1 20 rfl rfl)
theorem dJ2_appendNull_45 : decode cJ2_appendNull 45 = .ok (.iinc 1 1, 3) := dk_132 1 1 (dk_at dksJ2_appendNull_1 21 rfl rfl)
theorem dJ2_appendNull_48 : decode cJ2_appendNull 48 = .ok (.bipush 108, 2) := dk_16 108 (dk_at dksJ2_appendNull_2 0 rfl rfl)
theorem dJ2_appendNull_50 : decode cJ2_appendNull 50 = .ok (.bastore, 1) := dk_84 (dk_at dksJ2_appendNull_2 2 rfl rfl)
theorem dJ2_appendNull_51 : decode cJ2_appendNull 51 = .ok (.aload_n 2, 1) := dk_44 (dk_at dksJ2_appendNull_2 3 rfl rfl)
theorem dJ2_appendNull_52 : decode cJ2_appendNull 52 = .ok (.iload_n 1, 1) := dk_27 (dk_at dksJ2_appendNull_2 4 rfl rfl)
theorem dJ2_appendNull_53 : decode cJ2_appendNull 53 = .ok (.iinc 1 1, 3) := dk_132 1 1 (dk_at dksJ2_appendNull_2 5 rfl rfl)
theorem dJ2_appendNull_56 : decode cJ2_appendNull 56 = .ok (.bipush 108, 2) := dk_16 108 (dk_at dksJ2_appendNull_2 8 rfl rfl)
theorem dJ2_appendNull_58 : decode cJ2_appendNull 58 = .ok (.bastore, 1) := dk_84 (dk_at dksJ2_appendNull_2 10 rfl rfl)
theorem dJ2_appendNull_59 : decode cJ2_appendNull 59 = .ok (.goto 17, 3) := dk_167 0 17 (dk_at dksJ2_appendNull_2 11 rfl rfl)
theorem dJ2_appendNull_62 : decode cJ2_appendNull 62 = .ok (.aload_n 2, 1) := dk_44 (dk_at dksJ2_appendNull_2 14 rfl rfl)
theorem dJ2_appendNull_63 : decode cJ2_appendNull 63 = .ok (.iload_n 1, 1) := dk_27 (dk_at dksJ2_appendNull_2 15 rfl rfl)
theorem dJ2_appendNull_64 : decode cJ2_appendNull 64 = .ok (.bipush 110, 2) := dk_16 110 (dk_at dksJ2_appendNull_2 16 rfl rfl)
theorem dJ2_appendNull_66 : decode cJ2_appendNull 66 = .ok (.bipush 117, 2) := dk_16 117 (dk_at dksJ2_appendNull_2 18 rfl rfl)
theorem dJ2_appendNull_68 : decode cJ2_appendNull 68 = .ok (.bipush 108, 2) := dk_16 108 (dk_at dksJ2_appendNull_2 20 rfl rfl)
theorem dJ2_appendNull_70 : decode cJ2_appendNull 70 = .ok (.bipush 108, 2) := dk_16 108 (dk_at dksJ2_appendNull_2 22 rfl rfl)
theorem dJ2_appendNull_72 : decode cJ2_appendNull 72 = .ok (.invokestatic 226, 3) := dk_184 0 226 (dk_at dksJ2_appendNull_3 0 rfl rfl)
theorem dJ2_appendNull_75 : decode cJ2_appendNull 75 = .ok (.istore_n 1, 1) := dk_60 (dk_at dksJ2_appendNull_3 3 rfl rfl)
theorem dJ2_appendNull_76 : decode cJ2_appendNull 76 = .ok (.aload_n 0, 1) := dk_42 (dk_at dksJ2_appendNull_3 4 rfl rfl)
theorem dJ2_appendNull_77 : decode cJ2_appendNull 77 = .ok (.iload_n 1, 1) := dk_27 (dk_at dksJ2_appendNull_3 5 rfl rfl)
theorem dJ2_appendNull_78 : decode cJ2_appendNull 78 = .ok (.putfield 79, 3) := dk_181 0 79 (dk_at dksJ2_appendNull_3 6 rfl rfl)
theorem dJ2_appendNull_81 : decode cJ2_appendNull 81 = .ok (.aload_n 0, 1) := dk_42 (dk_at dksJ2_appendNull_3 9 rfl rfl)
theorem dJ2_appendNull_82 : decode cJ2_appendNull 82 = .ok (.areturn, 1) := dk_176 (dk_at dksJ2_appendNull_3 10 rfl rfl)
abbrev cJ2_ensureCapacityInternal : ByteArray := prog_14_method_9_code
def yJ2_ensureCapacityInternal : MethodName := ⟨RJ2, "ensureCapacityInternal", "(I)V"⟩
def dkwJ2_ensureCapacityInternal_1 : List UInt8 := [182, 0, 104, 42, 180, 0, 22, 120, 184, 0, 108, 181, 0, 15, 177]
abbrev dktJ2_ensureCapacityInternal_1 : List UInt8 := dkwJ2_ensureCapacityInternal_1 ++ []
def dkwJ2_ensureCapacityInternal_0 : List UInt8 := [42, 180, 0, 15, 190, 42, 180, 0, 22, 122, 61, 27, 28, 100, 158, 0, 24, 42, 42, 180, 0, 15, 42, 27]
abbrev dktJ2_ensureCapacityInternal_0 : List UInt8 := dkwJ2_ensureCapacityInternal_0 ++ dktJ2_ensureCapacityInternal_1
theorem dksJ2_ensureCapacityInternal_0 : cJ2_ensureCapacityInternal.data.toList.drop 0 = dktJ2_ensureCapacityInternal_0 := by decide +kernel
theorem dksJ2_ensureCapacityInternal_1 : cJ2_ensureCapacityInternal.data.toList.drop 24 = dktJ2_ensureCapacityInternal_1 := dk_seg dksJ2_ensureCapacityInternal_0 24 rfl rfl
theorem dJ2_ensureCapacityInternal_0 : decode cJ2_ensureCapacityInternal 0 = .ok (.aload_n 0, 1) := dk_42 (dk_at dksJ2_ensureCapacityInternal_0 0 rfl rfl)
theorem dJ2_ensureCapacityInternal_1 : decode cJ2_ensureCapacityInternal 1 = .ok (.getfield 15, 3) := dk_180 0 15 (dk_at dksJ2_ensureCapacityInternal_0 1 rfl rfl)
theorem dJ2_ensureCapacityInternal_4 : decode cJ2_ensureCapacityInternal 4 = .ok (.arraylength, 1) := dk_190 (dk_at dksJ2_ensureCapacityInternal_0 4 rfl rfl)
theorem dJ2_ensureCapacityInternal_5 : decode cJ2_ensureCapacityInternal 5 = .ok (.aload_n 0, 1) := dk_42 (dk_at dksJ2_ensureCapacityInternal_0 5 rfl rfl)
theorem dJ2_ensureCapacityInternal_6 : decode cJ2_ensureCapacityInternal 6 = .ok (.getfield 22, 3) := dk_180 0 22 (dk_at dksJ2_ensureCapacityInternal_0 6 rfl rfl)
theorem dJ2_ensureCapacityInternal_9 : decode cJ2_ensureCapacityInternal 9 = .ok (.ishr, 1) := dk_122 (dk_at dksJ2_ensureCapacityInternal_0 9 rfl rfl)
theorem dJ2_ensureCapacityInternal_10 : decode cJ2_ensureCapacityInternal 10 = .ok (.istore_n 2, 1) := dk_61 (dk_at dksJ2_ensureCapacityInternal_0 10 rfl rfl)
theorem dJ2_ensureCapacityInternal_11 : decode cJ2_ensureCapacityInternal 11 = .ok (.iload_n 1, 1) := dk_27 (dk_at dksJ2_ensureCapacityInternal_0 11 rfl rfl)
theorem dJ2_ensureCapacityInternal_12 : decode cJ2_ensureCapacityInternal 12 = .ok (.iload_n 2, 1) := dk_28 (dk_at dksJ2_ensureCapacityInternal_0 12 rfl rfl)
theorem dJ2_ensureCapacityInternal_13 : decode cJ2_ensureCapacityInternal 13 = .ok (.isub, 1) := dk_100 (dk_at dksJ2_ensureCapacityInternal_0 13 rfl rfl)
theorem dJ2_ensureCapacityInternal_14 : decode cJ2_ensureCapacityInternal 14 = .ok (.ifCond .le 24, 3) := dk_158 0 24 (dk_at dksJ2_ensureCapacityInternal_0 14 rfl rfl)
theorem dJ2_ensureCapacityInternal_17 : decode cJ2_ensureCapacityInternal 17 = .ok (.aload_n 0, 1) := dk_42 (dk_at dksJ2_ensureCapacityInternal_0 17 rfl rfl)
theorem dJ2_ensureCapacityInternal_18 : decode cJ2_ensureCapacityInternal 18 = .ok (.aload_n 0, 1) := dk_42 (dk_at dksJ2_ensureCapacityInternal_0 18 rfl rfl)
theorem dJ2_ensureCapacityInternal_19 : decode cJ2_ensureCapacityInternal 19 = .ok (.getfield 15, 3) := dk_180 0 15 (dk_at dksJ2_ensureCapacityInternal_0 19 rfl rfl)
theorem dJ2_ensureCapacityInternal_22 : decode cJ2_ensureCapacityInternal 22 = .ok (.aload_n 0, 1) := dk_42 (dk_at dksJ2_ensureCapacityInternal_0 22 rfl rfl)
theorem dJ2_ensureCapacityInternal_23 : decode cJ2_ensureCapacityInternal 23 = .ok (.iload_n 1, 1) := dk_27 (dk_at dksJ2_ensureCapacityInternal_0 23 rfl rfl)
theorem dJ2_ensureCapacityInternal_24 : decode cJ2_ensureCapacityInternal 24 = .ok (.invokevirtual 104, 3) := dk_182 0 104 (dk_at dksJ2_ensureCapacityInternal_1 0 rfl rfl)
theorem dJ2_ensureCapacityInternal_27 : decode cJ2_ensureCapacityInternal 27 = .ok (.aload_n 0, 1) := dk_42 (dk_at dksJ2_ensureCapacityInternal_1 3 rfl rfl)
theorem dJ2_ensureCapacityInternal_28 : decode cJ2_ensureCapacityInternal 28 = .ok (.getfield 22, 3) := dk_180 0 22 (dk_at dksJ2_ensureCapacityInternal_1 4 rfl rfl)
theorem dJ2_ensureCapacityInternal_31 : decode cJ2_ensureCapacityInternal 31 = .ok (.ishl, 1) := dk_120 (dk_at dksJ2_ensureCapacityInternal_1 7 rfl rfl)
theorem dJ2_ensureCapacityInternal_32 : decode cJ2_ensureCapacityInternal 32 = .ok (.invokestatic 108, 3) := dk_184 0 108 (dk_at dksJ2_ensureCapacityInternal_1 8 rfl rfl)
theorem dJ2_ensureCapacityInternal_35 : decode cJ2_ensureCapacityInternal 35 = .ok (.putfield 15, 3) := dk_181 0 15 (dk_at dksJ2_ensureCapacityInternal_1 11 rfl rfl)
theorem dJ2_ensureCapacityInternal_38 : decode cJ2_ensureCapacityInternal 38 = .ok (.return_, 1) := dk_177 (dk_at dksJ2_ensureCapacityInternal_1 14 rfl rfl)
abbrev cJ2_newCapacity : ByteArray := prog_14_method_10_code
def yJ2_newCapacity : MethodName := ⟨RJ2, "newCapacity", "(I)I"⟩
def dkwJ2_newCapacity_2 : List UInt8 := [183, 0, 124, 191, 21, 5, 42, 180, 0, 22, 122, 172]
abbrev dktJ2_newCapacity_2 : List UInt8 := dkwJ2_newCapacity_2 ++ []
def dkwJ2_newCapacity_1 : List UInt8 := [180, 0, 22, 120, 96, 184, 0, 114, 54, 5, 21, 5, 18, 39, 160, 0, 13, 187, 0, 120, 89, 18, 122]
abbrev dktJ2_newCapacity_1 : List UInt8 := dkwJ2_newCapacity_1 ++ dktJ2_newCapacity_2
def dkwJ2_newCapacity_0 : List UInt8 := [42, 180, 0, 15, 190, 61, 27, 42, 180, 0, 22, 120, 62, 29, 28, 100, 54, 4, 28, 21, 4, 28, 5, 42]
abbrev dktJ2_newCapacity_0 : List UInt8 := dkwJ2_newCapacity_0 ++ dktJ2_newCapacity_1
theorem dksJ2_newCapacity_0 : cJ2_newCapacity.data.toList.drop 0 = dktJ2_newCapacity_0 := by decide +kernel
theorem dksJ2_newCapacity_1 : cJ2_newCapacity.data.toList.drop 24 = dktJ2_newCapacity_1 := dk_seg dksJ2_newCapacity_0 24 rfl rfl
theorem dksJ2_newCapacity_2 : cJ2_newCapacity.data.toList.drop 47 = dktJ2_newCapacity_2 := dk_seg dksJ2_newCapacity_1 23 rfl rfl
theorem dJ2_newCapacity_0 : decode cJ2_newCapacity 0 = .ok (.aload_n 0, 1) := dk_42 (dk_at dksJ2_newCapacity_0 0 rfl rfl)
theorem dJ2_newCapacity_1 : decode cJ2_newCapacity 1 = .ok (.getfield 15, 3) := dk_180 0 15 (dk_at dksJ2_newCapacity_0 1 rfl rfl)
theorem dJ2_newCapacity_4 : decode cJ2_newCapacity 4 = .ok (.arraylength, 1) := dk_190 (dk_at dksJ2_newCapacity_0 4 rfl rfl)
theorem dJ2_newCapacity_5 : decode cJ2_newCapacity 5 = .ok (.istore_n 2, 1) := dk_61 (dk_at dksJ2_newCapacity_0 5 rfl rfl)
theorem dJ2_newCapacity_6 : decode cJ2_newCapacity 6 = .ok (.iload_n 1, 1) := dk_27 (dk_at dksJ2_newCapacity_0 6 rfl rfl)
theorem dJ2_newCapacity_7 : decode cJ2_newCapacity 7 = .ok (.aload_n 0, 1) := dk_42 (dk_at dksJ2_newCapacity_0 7 rfl rfl)
theorem dJ2_newCapacity_8 : decode cJ2_newCapacity 8 = .ok (.getfield 22, 3) := dk_180 0 22 (dk_at dksJ2_newCapacity_0 8 rfl rfl)
theorem dJ2_newCapacity_11 : decode cJ2_newCapacity 11 = .ok (.ishl, 1) := dk_120 (dk_at dksJ2_newCapacity_0 11 rfl rfl)
theorem dJ2_newCapacity_12 : decode cJ2_newCapacity 12 = .ok (.istore_n 3, 1) := dk_62 (dk_at dksJ2_newCapacity_0 12 rfl rfl)
theorem dJ2_newCapacity_13 : decode cJ2_newCapacity 13 = .ok (.iload_n 3, 1) := dk_29 (dk_at dksJ2_newCapacity_0 13 rfl rfl)
theorem dJ2_newCapacity_14 : decode cJ2_newCapacity 14 = .ok (.iload_n 2, 1) := dk_28 (dk_at dksJ2_newCapacity_0 14 rfl rfl)
theorem dJ2_newCapacity_15 : decode cJ2_newCapacity 15 = .ok (.isub, 1) := dk_100 (dk_at dksJ2_newCapacity_0 15 rfl rfl)
theorem dJ2_newCapacity_16 : decode cJ2_newCapacity 16 = .ok (.istore 4, 2) := dk_54 4 (dk_at dksJ2_newCapacity_0 16 rfl rfl)
theorem dJ2_newCapacity_18 : decode cJ2_newCapacity 18 = .ok (.iload_n 2, 1) := dk_28 (dk_at dksJ2_newCapacity_0 18 rfl rfl)
theorem dJ2_newCapacity_19 : decode cJ2_newCapacity 19 = .ok (.iload 4, 2) := dk_21 4 (dk_at dksJ2_newCapacity_0 19 rfl rfl)
theorem dJ2_newCapacity_21 : decode cJ2_newCapacity 21 = .ok (.iload_n 2, 1) := dk_28 (dk_at dksJ2_newCapacity_0 21 rfl rfl)
theorem dJ2_newCapacity_22 : decode cJ2_newCapacity 22 = .ok (.iconst 2, 1) := dk_5 (dk_at dksJ2_newCapacity_0 22 rfl rfl)
theorem dJ2_newCapacity_23 : decode cJ2_newCapacity 23 = .ok (.aload_n 0, 1) := dk_42 (dk_at dksJ2_newCapacity_0 23 rfl rfl)
theorem dJ2_newCapacity_24 : decode cJ2_newCapacity 24 = .ok (.getfield 22, 3) := dk_180 0 22 (dk_at dksJ2_newCapacity_1 0 rfl rfl)
theorem dJ2_newCapacity_27 : decode cJ2_newCapacity 27 = .ok (.ishl, 1) := dk_120 (dk_at dksJ2_newCapacity_1 3 rfl rfl)
theorem dJ2_newCapacity_28 : decode cJ2_newCapacity 28 = .ok (.iadd, 1) := dk_96 (dk_at dksJ2_newCapacity_1 4 rfl rfl)
theorem dJ2_newCapacity_29 : decode cJ2_newCapacity 29 = .ok (.invokestatic 114, 3) := dk_184 0 114 (dk_at dksJ2_newCapacity_1 5 rfl rfl)
theorem dJ2_newCapacity_32 : decode cJ2_newCapacity 32 = .ok (.istore 5, 2) := dk_54 5 (dk_at dksJ2_newCapacity_1 8 rfl rfl)
theorem dJ2_newCapacity_34 : decode cJ2_newCapacity 34 = .ok (.iload 5, 2) := dk_21 5 (dk_at dksJ2_newCapacity_1 10 rfl rfl)
theorem dJ2_newCapacity_36 : decode cJ2_newCapacity 36 = .ok (.ldc 39, 2) := dk_18 39 (dk_at dksJ2_newCapacity_1 12 rfl rfl)
theorem dJ2_newCapacity_38 : decode cJ2_newCapacity 38 = .ok (.if_icmp .ne 13, 3) := dk_160 0 13 (dk_at dksJ2_newCapacity_1 14 rfl rfl)
theorem dJ2_newCapacity_41 : decode cJ2_newCapacity 41 = .ok (.new 120, 3) := dk_187 0 120 (dk_at dksJ2_newCapacity_1 17 rfl rfl)
theorem dJ2_newCapacity_44 : decode cJ2_newCapacity 44 = .ok (.dup, 1) := dk_89 (dk_at dksJ2_newCapacity_1 20 rfl rfl)
theorem dJ2_newCapacity_45 : decode cJ2_newCapacity 45 = .ok (.ldc 122, 2) := dk_18 122 (dk_at dksJ2_newCapacity_1 21 rfl rfl)
theorem dJ2_newCapacity_47 : decode cJ2_newCapacity 47 = .ok (.invokespecial 124, 3) := dk_183 0 124 (dk_at dksJ2_newCapacity_2 0 rfl rfl)
theorem dJ2_newCapacity_50 : decode cJ2_newCapacity 50 = .ok (.athrow, 1) := dk_191 (dk_at dksJ2_newCapacity_2 3 rfl rfl)
theorem dJ2_newCapacity_51 : decode cJ2_newCapacity 51 = .ok (.iload 5, 2) := dk_21 5 (dk_at dksJ2_newCapacity_2 4 rfl rfl)
theorem dJ2_newCapacity_53 : decode cJ2_newCapacity 53 = .ok (.aload_n 0, 1) := dk_42 (dk_at dksJ2_newCapacity_2 6 rfl rfl)
theorem dJ2_newCapacity_54 : decode cJ2_newCapacity 54 = .ok (.getfield 22, 3) := dk_180 0 22 (dk_at dksJ2_newCapacity_2 7 rfl rfl)
theorem dJ2_newCapacity_57 : decode cJ2_newCapacity 57 = .ok (.ishr, 1) := dk_122 (dk_at dksJ2_newCapacity_2 10 rfl rfl)
theorem dJ2_newCapacity_58 : decode cJ2_newCapacity 58 = .ok (.ireturn, 1) := dk_172 (dk_at dksJ2_newCapacity_2 11 rfl rfl)
abbrev cJ2_isLatin1 : ByteArray := prog_14_method_68_code
def yJ2_isLatin1 : MethodName := ⟨RJ2, "isLatin1", "()Z"⟩
def dkwJ2_isLatin1_0 : List UInt8 := [178, 0, 18, 153, 0, 14, 42, 180, 0, 22, 154, 0, 7, 4, 167, 0, 4, 3, 172]
abbrev dktJ2_isLatin1_0 : List UInt8 := dkwJ2_isLatin1_0 ++ []
theorem dksJ2_isLatin1_0 : cJ2_isLatin1.data.toList.drop 0 = dktJ2_isLatin1_0 := by decide +kernel
theorem dJ2_isLatin1_0 : decode cJ2_isLatin1 0 = .ok (.getstatic 18, 3) := dk_178 0 18 (dk_at dksJ2_isLatin1_0 0 rfl rfl)
theorem dJ2_isLatin1_3 : decode cJ2_isLatin1 3 = .ok (.ifCond .eq 14, 3) := dk_153 0 14 (dk_at dksJ2_isLatin1_0 3 rfl rfl)
theorem dJ2_isLatin1_6 : decode cJ2_isLatin1 6 = .ok (.aload_n 0, 1) := dk_42 (dk_at dksJ2_isLatin1_0 6 rfl rfl)
theorem dJ2_isLatin1_7 : decode cJ2_isLatin1 7 = .ok (.getfield 22, 3) := dk_180 0 22 (dk_at dksJ2_isLatin1_0 7 rfl rfl)
theorem dJ2_isLatin1_10 : decode cJ2_isLatin1 10 = .ok (.ifCond .ne 7, 3) := dk_154 0 7 (dk_at dksJ2_isLatin1_0 10 rfl rfl)
theorem dJ2_isLatin1_13 : decode cJ2_isLatin1 13 = .ok (.iconst 1, 1) := dk_4 (dk_at dksJ2_isLatin1_0 13 rfl rfl)
theorem dJ2_isLatin1_14 : decode cJ2_isLatin1 14 = .ok (.goto 4, 3) := dk_167 0 4 (dk_at dksJ2_isLatin1_0 14 rfl rfl)
theorem dJ2_isLatin1_17 : decode cJ2_isLatin1 17 = .ok (.iconst 0, 1) := dk_3 (dk_at dksJ2_isLatin1_0 17 rfl rfl)
theorem dJ2_isLatin1_18 : decode cJ2_isLatin1 18 = .ok (.ireturn, 1) := dk_172 (dk_at dksJ2_isLatin1_0 18 rfl rfl)
abbrev cJ2_putStringAt : ByteArray := prog_14_method_73_code
def yJ2_putStringAt : MethodName := ⟨RJ2, "putStringAt", "(ILjava/lang/String;)V"⟩
def dkwJ2_putStringAt_0 : List UInt8 := [42, 44, 182, 1, 141, 44, 42, 180, 0, 15, 27, 42, 180, 0, 22, 182, 1, 143, 177]
abbrev dktJ2_putStringAt_0 : List UInt8 := dkwJ2_putStringAt_0 ++ []
theorem dksJ2_putStringAt_0 : cJ2_putStringAt.data.toList.drop 0 = dktJ2_putStringAt_0 := by decide +kernel
theorem dJ2_putStringAt_0 : decode cJ2_putStringAt 0 = .ok (.aload_n 0, 1) := dk_42 (dk_at dksJ2_putStringAt_0 0 rfl rfl)
theorem dJ2_putStringAt_1 : decode cJ2_putStringAt 1 = .ok (.aload_n 2, 1) := dk_44 (dk_at dksJ2_putStringAt_0 1 rfl rfl)
theorem dJ2_putStringAt_2 : decode cJ2_putStringAt 2 = .ok (.invokevirtual 397, 3) := dk_182 1 141 (dk_at dksJ2_putStringAt_0 2 rfl rfl)
theorem dJ2_putStringAt_5 : decode cJ2_putStringAt 5 = .ok (.aload_n 2, 1) := dk_44 (dk_at dksJ2_putStringAt_0 5 rfl rfl)
theorem dJ2_putStringAt_6 : decode cJ2_putStringAt 6 = .ok (.aload_n 0, 1) := dk_42 (dk_at dksJ2_putStringAt_0 6 rfl rfl)
theorem dJ2_putStringAt_7 : decode cJ2_putStringAt 7 = .ok (.getfield 15, 3) := dk_180 0 15 (dk_at dksJ2_putStringAt_0 7 rfl rfl)
theorem dJ2_putStringAt_10 : decode cJ2_putStringAt 10 = .ok (.iload_n 1, 1) := dk_27 (dk_at dksJ2_putStringAt_0 10 rfl rfl)
theorem dJ2_putStringAt_11 : decode cJ2_putStringAt 11 = .ok (.aload_n 0, 1) := dk_42 (dk_at dksJ2_putStringAt_0 11 rfl rfl)
theorem dJ2_putStringAt_12 : decode cJ2_putStringAt 12 = .ok (.getfield 22, 3) := dk_180 0 22 (dk_at dksJ2_putStringAt_0 12 rfl rfl)
theorem dJ2_putStringAt_15 : decode cJ2_putStringAt 15 = .ok (.invokevirtual 399, 3) := dk_182 1 143 (dk_at dksJ2_putStringAt_0 15 rfl rfl)
theorem dJ2_putStringAt_18 : decode cJ2_putStringAt 18 = .ok (.return_, 1) := dk_177 (dk_at dksJ2_putStringAt_0 18 rfl rfl)
abbrev cJ2_inflateIfNeededFor : ByteArray := prog_14_method_71_code
def yJ2_inflateIfNeededFor : MethodName := ⟨RJ2, "inflateIfNeededFor", "(Ljava/lang/String;)V"⟩
def dkwJ2_inflateIfNeededFor_0 : List UInt8 := [178, 0, 18, 153, 0, 18, 42, 180, 0, 22, 43, 182, 0, 40, 159, 0, 7, 42, 182, 0, 195, 177]
abbrev dktJ2_inflateIfNeededFor_0 : List UInt8 := dkwJ2_inflateIfNeededFor_0 ++ []
theorem dksJ2_inflateIfNeededFor_0 : cJ2_inflateIfNeededFor.data.toList.drop 0 = dktJ2_inflateIfNeededFor_0 := by decide +kernel
theorem dJ2_inflateIfNeededFor_0 : decode cJ2_inflateIfNeededFor 0 = .ok (.getstatic 18, 3) := dk_178 0 18 (dk_at dksJ2_inflateIfNeededFor_0 0 rfl rfl)
theorem dJ2_inflateIfNeededFor_3 : decode cJ2_inflateIfNeededFor 3 = .ok (.ifCond .eq 18, 3) := dk_153 0 18 (dk_at dksJ2_inflateIfNeededFor_0 3 rfl rfl)
theorem dJ2_inflateIfNeededFor_6 : decode cJ2_inflateIfNeededFor 6 = .ok (.aload_n 0, 1) := dk_42 (dk_at dksJ2_inflateIfNeededFor_0 6 rfl rfl)
theorem dJ2_inflateIfNeededFor_7 : decode cJ2_inflateIfNeededFor 7 = .ok (.getfield 22, 3) := dk_180 0 22 (dk_at dksJ2_inflateIfNeededFor_0 7 rfl rfl)
theorem dJ2_inflateIfNeededFor_10 : decode cJ2_inflateIfNeededFor 10 = .ok (.aload_n 1, 1) := dk_43 (dk_at dksJ2_inflateIfNeededFor_0 10 rfl rfl)
theorem dJ2_inflateIfNeededFor_11 : decode cJ2_inflateIfNeededFor 11 = .ok (.invokevirtual 40, 3) := dk_182 0 40 (dk_at dksJ2_inflateIfNeededFor_0 11 rfl rfl)
theorem dJ2_inflateIfNeededFor_14 : decode cJ2_inflateIfNeededFor 14 = .ok (.if_icmp .eq 7, 3) := dk_159 0 7 (dk_at dksJ2_inflateIfNeededFor_0 14 rfl rfl)
theorem dJ2_inflateIfNeededFor_17 : decode cJ2_inflateIfNeededFor 17 = .ok (.aload_n 0, 1) := dk_42 (dk_at dksJ2_inflateIfNeededFor_0 17 rfl rfl)
theorem dJ2_inflateIfNeededFor_18 : decode cJ2_inflateIfNeededFor 18 = .ok (.invokevirtual 195, 3) := dk_182 0 195 (dk_at dksJ2_inflateIfNeededFor_0 18 rfl rfl)
theorem dJ2_inflateIfNeededFor_21 : decode cJ2_inflateIfNeededFor 21 = .ok (.return_, 1) := dk_177 (dk_at dksJ2_inflateIfNeededFor_0 21 rfl rfl)
abbrev cJ2_inflate : ByteArray := prog_14_method_11_code
def yJ2_inflate : MethodName := ⟨RJ2, "inflate", "()V"⟩
def dkwJ2_inflate_1 : List UInt8 := [42, 180, 0, 79, 184, 0, 125, 42, 43, 181, 0, 15, 42, 4, 181, 0, 22, 177]
abbrev dktJ2_inflate_1 : List UInt8 := dkwJ2_inflate_1 ++ []
def dkwJ2_inflate_0 : List UInt8 := [42, 182, 0, 83, 154, 0, 4, 177, 42, 180, 0, 15, 190, 184, 0, 26, 76, 42, 180, 0, 15, 3, 43, 3]
abbrev dktJ2_inflate_0 : List UInt8 := dkwJ2_inflate_0 ++ dktJ2_inflate_1
theorem dksJ2_inflate_0 : cJ2_inflate.data.toList.drop 0 = dktJ2_inflate_0 := by decide +kernel
theorem dksJ2_inflate_1 : cJ2_inflate.data.toList.drop 24 = dktJ2_inflate_1 := dk_seg dksJ2_inflate_0 24 rfl rfl
theorem dJ2_inflate_0 : decode cJ2_inflate 0 = .ok (.aload_n 0, 1) := dk_42 (dk_at dksJ2_inflate_0 0 rfl rfl)
theorem dJ2_inflate_1 : decode cJ2_inflate 1 = .ok (.invokevirtual 83, 3) := dk_182 0 83 (dk_at dksJ2_inflate_0 1 rfl rfl)
theorem dJ2_inflate_4 : decode cJ2_inflate 4 = .ok (.ifCond .ne 4, 3) := dk_154 0 4 (dk_at dksJ2_inflate_0 4 rfl rfl)
theorem dJ2_inflate_7 : decode cJ2_inflate 7 = .ok (.return_, 1) := dk_177 (dk_at dksJ2_inflate_0 7 rfl rfl)
theorem dJ2_inflate_8 : decode cJ2_inflate 8 = .ok (.aload_n 0, 1) := dk_42 (dk_at dksJ2_inflate_0 8 rfl rfl)
theorem dJ2_inflate_9 : decode cJ2_inflate 9 = .ok (.getfield 15, 3) := dk_180 0 15 (dk_at dksJ2_inflate_0 9 rfl rfl)
theorem dJ2_inflate_12 : decode cJ2_inflate 12 = .ok (.arraylength, 1) := dk_190 (dk_at dksJ2_inflate_0 12 rfl rfl)
theorem dJ2_inflate_13 : decode cJ2_inflate 13 = .ok (.invokestatic 26, 3) := dk_184 0 26 (dk_at dksJ2_inflate_0 13 rfl rfl)
theorem dJ2_inflate_16 : decode cJ2_inflate 16 = .ok (.astore_n 1, 1) := dk_76 (dk_at dksJ2_inflate_0 16 rfl rfl)
theorem dJ2_inflate_17 : decode cJ2_inflate 17 = .ok (.aload_n 0, 1) := dk_42 (dk_at dksJ2_inflate_0 17 rfl rfl)
theorem dJ2_inflate_18 : decode cJ2_inflate 18 = .ok (.getfield 15, 3) := dk_180 0 15 (dk_at dksJ2_inflate_0 18 rfl rfl)
theorem dJ2_inflate_21 : decode cJ2_inflate 21 = .ok (.iconst 0, 1) := dk_3 (dk_at dksJ2_inflate_0 21 rfl rfl)
theorem dJ2_inflate_22 : decode cJ2_inflate 22 = .ok (.aload_n 1, 1) := dk_43 (dk_at dksJ2_inflate_0 22 rfl rfl)
theorem dJ2_inflate_23 : decode cJ2_inflate 23 = .ok (.iconst 0, 1) := dk_3 (dk_at dksJ2_inflate_0 23 rfl rfl)
theorem dJ2_inflate_24 : decode cJ2_inflate 24 = .ok (.aload_n 0, 1) := dk_42 (dk_at dksJ2_inflate_1 0 rfl rfl)
theorem dJ2_inflate_25 : decode cJ2_inflate 25 = .ok (.getfield 79, 3) := dk_180 0 79 (dk_at dksJ2_inflate_1 1 rfl rfl)
theorem dJ2_inflate_28 : decode cJ2_inflate 28 = .ok (.invokestatic 125, 3) := dk_184 0 125 (dk_at dksJ2_inflate_1 4 rfl rfl)
theorem dJ2_inflate_31 : decode cJ2_inflate 31 = .ok (.aload_n 0, 1) := dk_42 (dk_at dksJ2_inflate_1 7 rfl rfl)
theorem dJ2_inflate_32 : decode cJ2_inflate 32 = .ok (.aload_n 1, 1) := dk_43 (dk_at dksJ2_inflate_1 8 rfl rfl)
theorem dJ2_inflate_33 : decode cJ2_inflate 33 = .ok (.putfield 15, 3) := dk_181 0 15 (dk_at dksJ2_inflate_1 9 rfl rfl)
theorem dJ2_inflate_36 : decode cJ2_inflate 36 = .ok (.aload_n 0, 1) := dk_42 (dk_at dksJ2_inflate_1 12 rfl rfl)
theorem dJ2_inflate_37 : decode cJ2_inflate 37 = .ok (.iconst 1, 1) := dk_4 (dk_at dksJ2_inflate_1 13 rfl rfl)
theorem dJ2_inflate_38 : decode cJ2_inflate 38 = .ok (.putfield 22, 3) := dk_181 0 22 (dk_at dksJ2_inflate_1 14 rfl rfl)
theorem dJ2_inflate_41 : decode cJ2_inflate 41 = .ok (.return_, 1) := dk_177 (dk_at dksJ2_inflate_1 17 rfl rfl)
abbrev cJ2_append_2 : ByteArray := prog_14_method_32_code
def yJ2_append_2 : MethodName := ⟨RJ2, "append", "(I)Ljava/lang/AbstractStringBuilder;"⟩
def dkwJ2_append_2_2 : List UInt8 := [42, 29, 181, 0, 79, 42, 176]
abbrev dktJ2_append_2_2 : List UInt8 := dkwJ2_append_2_2 ++ []
def dkwJ2_append_2_1 : List UInt8 := [27, 29, 42, 180, 0, 15, 184, 0, 248, 87, 167, 0, 14, 27, 28, 29, 42, 180, 0, 15, 184, 0, 251, 87]
abbrev dktJ2_append_2_1 : List UInt8 := dkwJ2_append_2_1 ++ dktJ2_append_2_2
def dkwJ2_append_2_0 : List UInt8 := [42, 180, 0, 79, 61, 28, 27, 184, 0, 245, 96, 62, 42, 29, 182, 0, 100, 42, 182, 0, 83, 153, 0, 16]
abbrev dktJ2_append_2_0 : List UInt8 := dkwJ2_append_2_0 ++ dktJ2_append_2_1
theorem dksJ2_append_2_0 : cJ2_append_2.data.toList.drop 0 = dktJ2_append_2_0 := by decide +kernel
theorem dksJ2_append_2_1 : cJ2_append_2.data.toList.drop 24 = dktJ2_append_2_1 := dk_seg dksJ2_append_2_0 24 rfl rfl
theorem dksJ2_append_2_2 : cJ2_append_2.data.toList.drop 48 = dktJ2_append_2_2 := dk_seg dksJ2_append_2_1 24 rfl rfl
theorem dJ2_append_2_0 : decode cJ2_append_2 0 = .ok (.aload_n 0, 1) := dk_42 (dk_at dksJ2_append_2_0 0 rfl rfl)
theorem dJ2_append_2_1 : decode cJ2_append_2 1 = .ok (.getfield 79, 3) := dk_180 0 79 (dk_at dksJ2_append_2_0 1 rfl rfl)
theorem dJ2_append_2_4 : decode cJ2_append_2 4 = .ok (.istore_n 2, 1) := dk_61 (dk_at dksJ2_append_2_0 4 rfl rfl)
theorem dJ2_append_2_5 : decode cJ2_append_2 5 = .ok (.iload_n 2, 1) := dk_28 (dk_at dksJ2_append_2_0 5 rfl rfl)
theorem dJ2_append_2_6 : decode cJ2_append_2 6 = .ok (.iload_n 1, 1) := dk_27 (dk_at dksJ2_append_2_0 6 rfl rfl)
theorem dJ2_append_2_7 : decode cJ2_append_2 7 = .ok (.invokestatic 245, 3) := dk_184 0 245 (dk_at dksJ2_append_2_0 7 rfl rfl)
theorem dJ2_append_2_10 : decode cJ2_append_2 10 = .ok (.iadd, 1) := dk_96 (dk_at dksJ2_append_2_0 10 rfl rfl)
theorem dJ2_append_2_11 : decode cJ2_append_2 11 = .ok (.istore_n 3, 1) := dk_62 (dk_at dksJ2_append_2_0 11 rfl rfl)
theorem dJ2_append_2_12 : decode cJ2_append_2 12 = .ok (.aload_n 0, 1) := dk_42 (dk_at dksJ2_append_2_0 12 rfl rfl)
theorem dJ2_append_2_13 : decode cJ2_append_2 13 = .ok (.iload_n 3, 1) := dk_29 (dk_at dksJ2_append_2_0 13 rfl rfl)
theorem dJ2_append_2_14 : decode cJ2_append_2 14 = .ok (.invokevirtual 100, 3) := dk_182 0 100 (dk_at dksJ2_append_2_0 14 rfl rfl)
theorem dJ2_append_2_17 : decode cJ2_append_2 17 = .ok (.aload_n 0, 1) := dk_42 (dk_at dksJ2_append_2_0 17 rfl rfl)
theorem dJ2_append_2_18 : decode cJ2_append_2 18 = .ok (.invokevirtual 83, 3) := dk_182 0 83 (dk_at dksJ2_append_2_0 18 rfl rfl)
theorem dJ2_append_2_21 : decode cJ2_append_2 21 = .ok (.ifCond .eq 16, 3) := dk_153 0 16 (dk_at dksJ2_append_2_0 21 rfl rfl)
theorem dJ2_append_2_24 : decode cJ2_append_2 24 = .ok (.iload_n 1, 1) := dk_27 (dk_at dksJ2_append_2_1 0 rfl rfl)
theorem dJ2_append_2_25 : decode cJ2_append_2 25 = .ok (.iload_n 3, 1) := dk_29 (dk_at dksJ2_append_2_1 1 rfl rfl)
theorem dJ2_append_2_26 : decode cJ2_append_2 26 = .ok (.aload_n 0, 1) := dk_42 (dk_at dksJ2_append_2_1 2 rfl rfl)
theorem dJ2_append_2_27 : decode cJ2_append_2 27 = .ok (.getfield 15, 3) := dk_180 0 15 (dk_at dksJ2_append_2_1 3 rfl rfl)
theorem dJ2_append_2_30 : decode cJ2_append_2 30 = .ok (.invokestatic 248, 3) := dk_184 0 248 (dk_at dksJ2_append_2_1 6 rfl rfl)
theorem dJ2_append_2_33 : decode cJ2_append_2 33 = .ok (.pop, 1) := dk_87 (dk_at dksJ2_append_2_1 9 rfl rfl)
theorem dJ2_append_2_34 : decode cJ2_append_2 34 = .ok (.goto 14, 3) := dk_167 0 14 (dk_at dksJ2_append_2_1 10 rfl rfl)
theorem dJ2_append_2_37 : decode cJ2_append_2 37 = .ok (.iload_n 1, 1) := dk_27 (dk_at dksJ2_append_2_1 13 rfl rfl)
theorem dJ2_append_2_38 : decode cJ2_append_2 38 = .ok (.iload_n 2, 1) := dk_28 (dk_at dksJ2_append_2_1 14 rfl rfl)
theorem dJ2_append_2_39 : decode cJ2_append_2 39 = .ok (.iload_n 3, 1) := dk_29 (dk_at dksJ2_append_2_1 15 rfl rfl)
theorem dJ2_append_2_40 : decode cJ2_append_2 40 = .ok (.aload_n 0, 1) := dk_42 (dk_at dksJ2_append_2_1 16 rfl rfl)
theorem dJ2_append_2_41 : decode cJ2_append_2 41 = .ok (.getfield 15, 3) := dk_180 0 15 (dk_at dksJ2_append_2_1 17 rfl rfl)
theorem dJ2_append_2_44 : decode cJ2_append_2 44 = .ok (.invokestatic 251, 3) := dk_184 0 251 (dk_at dksJ2_append_2_1 20 rfl rfl)
theorem dJ2_append_2_47 : decode cJ2_append_2 47 = .ok (.pop, 1) := dk_87 (dk_at dksJ2_append_2_1 23 rfl rfl)
theorem dJ2_append_2_48 : decode cJ2_append_2 48 = .ok (.aload_n 0, 1) := dk_42 (dk_at dksJ2_append_2_2 0 rfl rfl)
theorem dJ2_append_2_49 : decode cJ2_append_2 49 = .ok (.iload_n 3, 1) := dk_29 (dk_at dksJ2_append_2_2 1 rfl rfl)
theorem dJ2_append_2_50 : decode cJ2_append_2 50 = .ok (.putfield 79, 3) := dk_181 0 79 (dk_at dksJ2_append_2_2 2 rfl rfl)
theorem dJ2_append_2_53 : decode cJ2_append_2 53 = .ok (.aload_n 0, 1) := dk_42 (dk_at dksJ2_append_2_2 5 rfl rfl)
theorem dJ2_append_2_54 : decode cJ2_append_2 54 = .ok (.areturn, 1) := dk_176 (dk_at dksJ2_append_2_2 6 rfl rfl)
abbrev cJ2_getValue : ByteArray := prog_14_method_64_code
def yJ2_getValue : MethodName := ⟨RJ2, "getValue", "()[B"⟩
theorem dJ2_getValue_0 : decode cJ2_getValue 0 = .ok (.aload_n 0, 1) := by decide +kernel
theorem dJ2_getValue_1 : decode cJ2_getValue 1 = .ok (.getfield 15, 3) := by decide +kernel
theorem dJ2_getValue_4 : decode cJ2_getValue 4 = .ok (.areturn, 1) := by decide +kernel
abbrev cJ2_length : ByteArray := prog_14_method_6_code
def yJ2_length : MethodName := ⟨RJ2, "length", "()I"⟩
theorem dJ2_length_0 : decode cJ2_length 0 = .ok (.aload_n 0, 1) := by decide +kernel
theorem dJ2_length_1 : decode cJ2_length 1 = .ok (.getfield 79, 3) := by decide +kernel
theorem dJ2_length_4 : decode cJ2_length 4 = .ok (.ireturn, 1) := by decide +kernel
abbrev cJ2_append_3 : ByteArray := prog_14_method_31_code
def yJ2_append_3 : MethodName := ⟨RJ2, "append", "(C)Ljava/lang/AbstractStringBuilder;"⟩
def dkwJ2_append_3_3 : List UInt8 := [181, 0, 79, 27, 184, 0, 197, 42, 176]
abbrev dktJ2_append_3_3 : List UInt8 := dkwJ2_append_3_3 ++ []
def dkwJ2_append_3_2 : List UInt8 := [182, 0, 83, 153, 0, 7, 42, 182, 0, 195, 42, 180, 0, 15, 42, 89, 180, 0, 79, 90, 4, 96]
abbrev dktJ2_append_3_2 : List UInt8 := dkwJ2_append_3_2 ++ dktJ2_append_3_3
def dkwJ2_append_3_1 : List UInt8 := [42, 180, 0, 15, 42, 89, 180, 0, 79, 90, 4, 96, 181, 0, 79, 27, 145, 84, 167, 0, 33, 42]
abbrev dktJ2_append_3_1 : List UInt8 := dkwJ2_append_3_1 ++ dktJ2_append_3_2
def dkwJ2_append_3_0 : List UInt8 := [42, 42, 180, 0, 79, 4, 96, 182, 0, 100, 42, 182, 0, 83, 153, 0, 31, 27, 184, 0, 191, 153, 0, 24]
abbrev dktJ2_append_3_0 : List UInt8 := dkwJ2_append_3_0 ++ dktJ2_append_3_1
theorem dksJ2_append_3_0 : cJ2_append_3.data.toList.drop 0 = dktJ2_append_3_0 := by decide +kernel
theorem dksJ2_append_3_1 : cJ2_append_3.data.toList.drop 24 = dktJ2_append_3_1 := dk_seg dksJ2_append_3_0 24 rfl rfl
theorem dksJ2_append_3_2 : cJ2_append_3.data.toList.drop 46 = dktJ2_append_3_2 := dk_seg dksJ2_append_3_1 22 rfl rfl
theorem dksJ2_append_3_3 : cJ2_append_3.data.toList.drop 68 = dktJ2_append_3_3 := dk_seg dksJ2_append_3_2 22 rfl rfl
theorem dJ2_append_3_0 : decode cJ2_append_3 0 = .ok (.aload_n 0, 1) := dk_42 (dk_at dksJ2_append_3_0 0 rfl rfl)
theorem dJ2_append_3_1 : decode cJ2_append_3 1 = .ok (.aload_n 0, 1) := dk_42 (dk_at dksJ2_append_3_0 1 rfl rfl)
theorem dJ2_append_3_2 : decode cJ2_append_3 2 = .ok (.getfield 79, 3) := dk_180 0 79 (dk_at dksJ2_append_3_0 2 rfl rfl)
theorem dJ2_append_3_5 : decode cJ2_append_3 5 = .ok (.iconst 1, 1) := dk_4 (dk_at dksJ2_append_3_0 5 rfl rfl)
theorem dJ2_append_3_6 : decode cJ2_append_3 6 = .ok (.iadd, 1) := dk_96 (dk_at dksJ2_append_3_0 6 rfl rfl)
theorem dJ2_append_3_7 : decode cJ2_append_3 7 = .ok (.invokevirtual 100, 3) := dk_182 0 100 (dk_at dksJ2_append_3_0 7 rfl rfl)
theorem dJ2_append_3_10 : decode cJ2_append_3 10 = .ok (.aload_n 0, 1) := dk_42 (dk_at dksJ2_append_3_0 10 rfl rfl)
theorem dJ2_append_3_11 : decode cJ2_append_3 11 = .ok (.invokevirtual 83, 3) := dk_182 0 83 (dk_at dksJ2_append_3_0 11 rfl rfl)
theorem dJ2_append_3_14 : decode cJ2_append_3 14 = .ok (.ifCond .eq 31, 3) := dk_153 0 31 (dk_at dksJ2_append_3_0 14 rfl rfl)
theorem dJ2_append_3_17 : decode cJ2_append_3 17 = .ok (.iload_n 1, 1) := dk_27 (dk_at dksJ2_append_3_0 17 rfl rfl)
theorem dJ2_append_3_18 : decode cJ2_append_3 18 = .ok (.invokestatic 191, 3) := dk_184 0 191 (dk_at dksJ2_append_3_0 18 rfl rfl)
theorem dJ2_append_3_21 : decode cJ2_append_3 21 = .ok (.ifCond .eq 24, 3) := dk_153 0 24 (dk_at dksJ2_append_3_0 21 rfl rfl)
theorem dJ2_append_3_24 : decode cJ2_append_3 24 = .ok (.aload_n 0, 1) := dk_42 (dk_at dksJ2_append_3_1 0 rfl rfl)
theorem dJ2_append_3_25 : decode cJ2_append_3 25 = .ok (.getfield 15, 3) := dk_180 0 15 (dk_at dksJ2_append_3_1 1 rfl rfl)
theorem dJ2_append_3_28 : decode cJ2_append_3 28 = .ok (.aload_n 0, 1) := dk_42 (dk_at dksJ2_append_3_1 4 rfl rfl)
theorem dJ2_append_3_29 : decode cJ2_append_3 29 = .ok (.dup, 1) := dk_89 (dk_at dksJ2_append_3_1 5 rfl rfl)
theorem dJ2_append_3_30 : decode cJ2_append_3 30 = .ok (.getfield 79, 3) := dk_180 0 79 (dk_at dksJ2_append_3_1 6 rfl rfl)
theorem dJ2_append_3_33 : decode cJ2_append_3 33 = .ok (.dup_x1, 1) := dk_90 (dk_at dksJ2_append_3_1 9 rfl rfl)
theorem dJ2_append_3_34 : decode cJ2_append_3 34 = .ok (.iconst 1, 1) := dk_4 (dk_at dksJ2_append_3_1 10 rfl rfl)
theorem dJ2_append_3_35 : decode cJ2_append_3 35 = .ok (.iadd, 1) := dk_96 (dk_at dksJ2_append_3_1 11 rfl rfl)
theorem dJ2_append_3_36 : decode cJ2_append_3 36 = .ok (.putfield 79, 3) := dk_181 0 79 (dk_at dksJ2_append_3_1 12 rfl rfl)
theorem dJ2_append_3_39 : decode cJ2_append_3 39 = .ok (.iload_n 1, 1) := dk_27 (dk_at dksJ2_append_3_1 15 rfl rfl)
theorem dJ2_append_3_40 : decode cJ2_append_3 40 = .ok (.i2b, 1) := dk_145 (dk_at dksJ2_append_3_1 16 rfl rfl)
theorem dJ2_append_3_41 : decode cJ2_append_3 41 = .ok (.bastore, 1) := dk_84 (dk_at dksJ2_append_3_1 17 rfl rfl)
theorem dJ2_append_3_42 : decode cJ2_append_3 42 = .ok (.goto 33, 3) := dk_167 0 33 (dk_at dksJ2_append_3_1 18 rfl rfl)
theorem dJ2_append_3_45 : decode cJ2_append_3 45 = .ok (.aload_n 0, 1) := dk_42 (dk_at dksJ2_append_3_1 21 rfl rfl)
theorem dJ2_append_3_46 : decode cJ2_append_3 46 = .ok (.invokevirtual 83, 3) := dk_182 0 83 (dk_at dksJ2_append_3_2 0 rfl rfl)
theorem dJ2_append_3_49 : decode cJ2_append_3 49 = .ok (.ifCond .eq 7, 3) := dk_153 0 7 (dk_at dksJ2_append_3_2 3 rfl rfl)
theorem dJ2_append_3_52 : decode cJ2_append_3 52 = .ok (.aload_n 0, 1) := dk_42 (dk_at dksJ2_append_3_2 6 rfl rfl)
theorem dJ2_append_3_53 : decode cJ2_append_3 53 = .ok (.invokevirtual 195, 3) := dk_182 0 195 (dk_at dksJ2_append_3_2 7 rfl rfl)
theorem dJ2_append_3_56 : decode cJ2_append_3 56 = .ok (.aload_n 0, 1) := dk_42 (dk_at dksJ2_append_3_2 10 rfl rfl)
theorem dJ2_append_3_57 : decode cJ2_append_3 57 = .ok (.getfield 15, 3) := dk_180 0 15 (dk_at dksJ2_append_3_2 11 rfl rfl)
theorem dJ2_append_3_60 : decode cJ2_append_3 60 = .ok (.aload_n 0, 1) := dk_42 (dk_at dksJ2_append_3_2 14 rfl rfl)
theorem dJ2_append_3_61 : decode cJ2_append_3 61 = .ok (.dup, 1) := dk_89 (dk_at dksJ2_append_3_2 15 rfl rfl)
theorem dJ2_append_3_62 : decode cJ2_append_3 62 = .ok (.getfield 79, 3) := dk_180 0 79 (dk_at dksJ2_append_3_2 16 rfl rfl)
theorem dJ2_append_3_65 : decode cJ2_append_3 65 = .ok (.dup_x1, 1) := dk_90 (dk_at dksJ2_append_3_2 19 rfl rfl)
theorem dJ2_append_3_66 : decode cJ2_append_3 66 = .ok (.iconst 1, 1) := dk_4 (dk_at dksJ2_append_3_2 20 rfl rfl)
theorem dJ2_append_3_67 : decode cJ2_append_3 67 = .ok (.iadd, 1) := dk_96 (dk_at dksJ2_append_3_2 21 rfl rfl)
theorem dJ2_append_3_68 : decode cJ2_append_3 68 = .ok (.putfield 79, 3) := dk_181 0 79 (dk_at dksJ2_append_3_3 0 rfl rfl)
theorem dJ2_append_3_71 : decode cJ2_append_3 71 = .ok (.iload_n 1, 1) := dk_27 (dk_at dksJ2_append_3_3 3 rfl rfl)
theorem dJ2_append_3_72 : decode cJ2_append_3 72 = .ok (.invokestatic 197, 3) := dk_184 0 197 (dk_at dksJ2_append_3_3 4 rfl rfl)
theorem dJ2_append_3_75 : decode cJ2_append_3 75 = .ok (.aload_n 0, 1) := dk_42 (dk_at dksJ2_append_3_3 7 rfl rfl)
theorem dJ2_append_3_76 : decode cJ2_append_3 76 = .ok (.areturn, 1) := dk_176 (dk_at dksJ2_append_3_3 8 rfl rfl)
abbrev cJ2_charAt : ByteArray := prog_14_method_14_code
def yJ2_charAt : MethodName := ⟨RJ2, "charAt", "(I)C"⟩
def dkwJ2_charAt_1 : List UInt8 := [21, 4, 184, 0, 144, 28, 154, 0, 12, 45, 27, 51, 17, 0, 255, 126, 146, 172, 45, 27, 184, 0, 148, 172]
abbrev dktJ2_charAt_1 : List UInt8 := dkwJ2_charAt_1 ++ []
def dkwJ2_charAt_0 : List UInt8 := [42, 180, 0, 22, 61, 42, 180, 0, 15, 78, 42, 180, 0, 79, 45, 190, 28, 122, 184, 0, 138, 54, 4, 27]
abbrev dktJ2_charAt_0 : List UInt8 := dkwJ2_charAt_0 ++ dktJ2_charAt_1
theorem dksJ2_charAt_0 : cJ2_charAt.data.toList.drop 0 = dktJ2_charAt_0 := by decide +kernel
theorem dksJ2_charAt_1 : cJ2_charAt.data.toList.drop 24 = dktJ2_charAt_1 := dk_seg dksJ2_charAt_0 24 rfl rfl
theorem dJ2_charAt_0 : decode cJ2_charAt 0 = .ok (.aload_n 0, 1) := dk_42 (dk_at dksJ2_charAt_0 0 rfl rfl)
theorem dJ2_charAt_1 : decode cJ2_charAt 1 = .ok (.getfield 22, 3) := dk_180 0 22 (dk_at dksJ2_charAt_0 1 rfl rfl)
theorem dJ2_charAt_4 : decode cJ2_charAt 4 = .ok (.istore_n 2, 1) := dk_61 (dk_at dksJ2_charAt_0 4 rfl rfl)
theorem dJ2_charAt_5 : decode cJ2_charAt 5 = .ok (.aload_n 0, 1) := dk_42 (dk_at dksJ2_charAt_0 5 rfl rfl)
theorem dJ2_charAt_6 : decode cJ2_charAt 6 = .ok (.getfield 15, 3) := dk_180 0 15 (dk_at dksJ2_charAt_0 6 rfl rfl)
theorem dJ2_charAt_9 : decode cJ2_charAt 9 = .ok (.astore_n 3, 1) := dk_78 (dk_at dksJ2_charAt_0 9 rfl rfl)
theorem dJ2_charAt_10 : decode cJ2_charAt 10 = .ok (.aload_n 0, 1) := dk_42 (dk_at dksJ2_charAt_0 10 rfl rfl)
theorem dJ2_charAt_11 : decode cJ2_charAt 11 = .ok (.getfield 79, 3) := dk_180 0 79 (dk_at dksJ2_charAt_0 11 rfl rfl)
theorem dJ2_charAt_14 : decode cJ2_charAt 14 = .ok (.aload_n 3, 1) := dk_45 (dk_at dksJ2_charAt_0 14 rfl rfl)
theorem dJ2_charAt_15 : decode cJ2_charAt 15 = .ok (.arraylength, 1) := dk_190 (dk_at dksJ2_charAt_0 15 rfl rfl)
theorem dJ2_charAt_16 : decode cJ2_charAt 16 = .ok (.iload_n 2, 1) := dk_28 (dk_at dksJ2_charAt_0 16 rfl rfl)
theorem dJ2_charAt_17 : decode cJ2_charAt 17 = .ok (.ishr, 1) := dk_122 (dk_at dksJ2_charAt_0 17 rfl rfl)
theorem dJ2_charAt_18 : decode cJ2_charAt 18 = .ok (.invokestatic 138, 3) := dk_184 0 138 (dk_at dksJ2_charAt_0 18 rfl rfl)
theorem dJ2_charAt_21 : decode cJ2_charAt 21 = .ok (.istore 4, 2) := dk_54 4 (dk_at dksJ2_charAt_0 21 rfl rfl)
theorem dJ2_charAt_23 : decode cJ2_charAt 23 = .ok (.iload_n 1, 1) := dk_27 (dk_at dksJ2_charAt_0 23 rfl rfl)
theorem dJ2_charAt_24 : decode cJ2_charAt 24 = .ok (.iload 4, 2) := dk_21 4 (dk_at dksJ2_charAt_1 0 rfl rfl)
theorem dJ2_charAt_26 : decode cJ2_charAt 26 = .ok (.invokestatic 144, 3) := dk_184 0 144 (dk_at dksJ2_charAt_1 2 rfl rfl)
theorem dJ2_charAt_29 : decode cJ2_charAt 29 = .ok (.iload_n 2, 1) := dk_28 (dk_at dksJ2_charAt_1 5 rfl rfl)
theorem dJ2_charAt_30 : decode cJ2_charAt 30 = .ok (.ifCond .ne 12, 3) := dk_154 0 12 (dk_at dksJ2_charAt_1 6 rfl rfl)
theorem dJ2_charAt_33 : decode cJ2_charAt 33 = .ok (.aload_n 3, 1) := dk_45 (dk_at dksJ2_charAt_1 9 rfl rfl)
theorem dJ2_charAt_34 : decode cJ2_charAt 34 = .ok (.iload_n 1, 1) := dk_27 (dk_at dksJ2_charAt_1 10 rfl rfl)
theorem dJ2_charAt_35 : decode cJ2_charAt 35 = .ok (.baload, 1) := dk_51 (dk_at dksJ2_charAt_1 11 rfl rfl)
theorem dJ2_charAt_36 : decode cJ2_charAt 36 = .ok (.sipush 255, 3) := dk_17 0 255 (dk_at dksJ2_charAt_1 12 rfl rfl)
theorem dJ2_charAt_39 : decode cJ2_charAt 39 = .ok (.iand, 1) := dk_126 (dk_at dksJ2_charAt_1 15 rfl rfl)
theorem dJ2_charAt_40 : decode cJ2_charAt 40 = .ok (.i2c, 1) := dk_146 (dk_at dksJ2_charAt_1 16 rfl rfl)
theorem dJ2_charAt_41 : decode cJ2_charAt 41 = .ok (.ireturn, 1) := dk_172 (dk_at dksJ2_charAt_1 17 rfl rfl)
theorem dJ2_charAt_42 : decode cJ2_charAt 42 = .ok (.aload_n 3, 1) := dk_45 (dk_at dksJ2_charAt_1 18 rfl rfl)
theorem dJ2_charAt_43 : decode cJ2_charAt 43 = .ok (.iload_n 1, 1) := dk_27 (dk_at dksJ2_charAt_1 19 rfl rfl)
theorem dJ2_charAt_44 : decode cJ2_charAt 44 = .ok (.invokestatic 148, 3) := dk_184 0 148 (dk_at dksJ2_charAt_1 20 rfl rfl)
theorem dJ2_charAt_47 : decode cJ2_charAt 47 = .ok (.ireturn, 1) := dk_172 (dk_at dksJ2_charAt_1 23 rfl rfl)
theorem q91 : (Jvm.Cond.initialized "java/lang/AbstractStringBuilder") ∈ lw_all := lw_g (lw_at lw_m1 8 rfl) rfl
theorem q268 : (Jvm.Cond.instanceMethod ({ cls := "java/lang/AbstractStringBuilder", name := "<init>", desc := "(I)V" } : Jvm.MethodName)) ∈ lw_all := lw_g (lw_at lw_m1 185 rfl) rfl
theorem q269 : (Jvm.Cond.code ({ cls := "java/lang/AbstractStringBuilder", name := "<init>", desc := "(I)V" } : Jvm.MethodName) prog_14_method_2_code (2 : Nat) (Option.none : Option Jvm.ClassFile.FieldType)) ∈ lw_all := lw_g (lw_at lw_m1 186 rfl) rfl
theorem q270 : (Jvm.Cond.methodLink "java/lang/AbstractStringBuilder" (3 : Nat) ({ cls := "java/lang/Object", name := "<init>", desc := "()V" } : Jvm.MethodName)) ∈ lw_all := lw_g (lw_at lw_m1 187 rfl) rfl
theorem q271 : (Jvm.Cond.fieldLink "java/lang/AbstractStringBuilder" (18 : Nat) "java/lang/String" "COMPACT_STRINGS" "Z") ∈ lw_all := lw_g (lw_at lw_m1 188 rfl) rfl
theorem q273 : (Jvm.Cond.methodLink "java/lang/AbstractStringBuilder" (26 : Nat) ({ cls := "java/lang/StringUTF16", name := "newBytesFor", desc := "(I)[B" } : Jvm.MethodName)) ∈ lw_all := lw_g (lw_at lw_m1 190 rfl) rfl
theorem q369 : (Jvm.Cond.fieldLink "java/lang/AbstractStringBuilder" (15 : Nat) "java/lang/AbstractStringBuilder" "value" "[B") ∈ lw_all := lw_g (lw_at lw_m2 46 rfl) rfl
theorem q370 : (Jvm.Cond.fieldLink "java/lang/AbstractStringBuilder" (22 : Nat) "java/lang/AbstractStringBuilder" "coder" "B") ∈ lw_all := lw_g (lw_at lw_m2 47 rfl) rfl
theorem q371 : (Jvm.Cond.fieldLink "java/lang/AbstractStringBuilder" (73 : Nat) "java/lang/AbstractStringBuilder" "maybeLatin1" "Z") ∈ lw_all := lw_g (lw_at lw_m2 48 rfl) rfl
theorem q373 : (Jvm.Cond.fieldLink "java/lang/AbstractStringBuilder" (79 : Nat) "java/lang/AbstractStringBuilder" "count" "I") ∈ lw_all := lw_g (lw_at lw_m2 50 rfl) rfl
theorem q375 : (Jvm.Cond.soleField "java/lang/AbstractStringBuilder" "value") ∈ lw_all := lw_g (lw_at lw_m2 52 rfl) rfl
theorem q377 : (Jvm.Cond.soleField "java/lang/AbstractStringBuilder" "coder") ∈ lw_all := lw_g (lw_at lw_m2 54 rfl) rfl
theorem q379 : (Jvm.Cond.soleField "java/lang/AbstractStringBuilder" "maybeLatin1") ∈ lw_all := lw_g (lw_at lw_m2 56 rfl) rfl
theorem q381 : (Jvm.Cond.soleField "java/lang/AbstractStringBuilder" "count") ∈ lw_all := lw_g (lw_at lw_m2 58 rfl) rfl
theorem q839 : (Jvm.Cond.instanceMethod ({ cls := "java/lang/AbstractStringBuilder", name := "setLength", desc := "(I)V" } : Jvm.MethodName)) ∈ lw_all := lw_g (lw_at lw_m4 36 rfl) rfl
theorem q840 : (Jvm.Cond.code ({ cls := "java/lang/AbstractStringBuilder", name := "setLength", desc := "(I)V" } : Jvm.MethodName) prog_14_method_13_code (2 : Nat) (Option.none : Option Jvm.ClassFile.FieldType)) ∈ lw_all := lw_g (lw_at lw_m4 37 rfl) rfl
theorem q841 : (Jvm.Cond.classLink "java/lang/AbstractStringBuilder" (129 : Nat) "java/lang/StringIndexOutOfBoundsException") ∈ lw_all := lw_g (lw_at lw_m4 38 rfl) rfl
theorem q843 : (Jvm.Cond.methodLink "java/lang/AbstractStringBuilder" (131 : Nat) ({ cls := "java/lang/StringIndexOutOfBoundsException", name := "<init>", desc := "(I)V" } : Jvm.MethodName)) ∈ lw_all := lw_g (lw_at lw_m4 40 rfl) rfl
theorem q854 : (Jvm.Cond.instanceMethod ({ cls := "java/lang/AbstractStringBuilder", name := "append", desc := "(Ljava/lang/String;)Ljava/lang/AbstractStringBuilder;" } : Jvm.MethodName)) ∈ lw_all := lw_g (lw_at lw_m4 51 rfl) rfl
theorem q855 : (Jvm.Cond.code ({ cls := "java/lang/AbstractStringBuilder", name := "append", desc := "(Ljava/lang/String;)Ljava/lang/AbstractStringBuilder;" } : Jvm.MethodName) prog_14_method_22_code (3 : Nat) (Option.some (Jvm.ClassFile.FieldType.object "java/lang/AbstractStringBuilder"))) ∈ lw_all := lw_g (lw_at lw_m4 52 rfl) rfl
theorem q856 : (Jvm.Cond.methodLink "java/lang/AbstractStringBuilder" (204 : Nat) ({ cls := "java/lang/AbstractStringBuilder", name := "appendNull", desc := "()Ljava/lang/AbstractStringBuilder;" } : Jvm.MethodName)) ∈ lw_all := lw_g (lw_at lw_m4 53 rfl) rfl
theorem q857 : (Jvm.Cond.privateMethod ({ cls := "java/lang/AbstractStringBuilder", name := "appendNull", desc := "()Ljava/lang/AbstractStringBuilder;" } : Jvm.MethodName)) ∈ lw_tbl := lw_at lw_m4 54 rfl
theorem q858 : (Jvm.Cond.instanceMethod ({ cls := "java/lang/AbstractStringBuilder", name := "appendNull", desc := "()Ljava/lang/AbstractStringBuilder;" } : Jvm.MethodName)) ∈ lw_all := lw_g (lw_at lw_m4 55 rfl) rfl
theorem q859 : (Jvm.Cond.code ({ cls := "java/lang/AbstractStringBuilder", name := "appendNull", desc := "()Ljava/lang/AbstractStringBuilder;" } : Jvm.MethodName) prog_14_method_26_code (3 : Nat) (Option.some (Jvm.ClassFile.FieldType.object "java/lang/AbstractStringBuilder"))) ∈ lw_all := lw_g (lw_at lw_m4 56 rfl) rfl
theorem q860 : (Jvm.Cond.methodLink "java/lang/AbstractStringBuilder" (100 : Nat) ({ cls := "java/lang/AbstractStringBuilder", name := "ensureCapacityInternal", desc := "(I)V" } : Jvm.MethodName)) ∈ lw_all := lw_g (lw_at lw_m4 57 rfl) rfl
theorem q861 : (Jvm.Cond.privateMethod ({ cls := "java/lang/AbstractStringBuilder", name := "ensureCapacityInternal", desc := "(I)V" } : Jvm.MethodName)) ∈ lw_tbl := lw_at lw_m4 58 rfl
theorem q862 : (Jvm.Cond.instanceMethod ({ cls := "java/lang/AbstractStringBuilder", name := "ensureCapacityInternal", desc := "(I)V" } : Jvm.MethodName)) ∈ lw_all := lw_g (lw_at lw_m4 59 rfl) rfl
theorem q863 : (Jvm.Cond.code ({ cls := "java/lang/AbstractStringBuilder", name := "ensureCapacityInternal", desc := "(I)V" } : Jvm.MethodName) prog_14_method_9_code (3 : Nat) (Option.none : Option Jvm.ClassFile.FieldType)) ∈ lw_all := lw_g (lw_at lw_m4 60 rfl) rfl
theorem q864 : (Jvm.Cond.methodLink "java/lang/AbstractStringBuilder" (104 : Nat) ({ cls := "java/lang/AbstractStringBuilder", name := "newCapacity", desc := "(I)I" } : Jvm.MethodName)) ∈ lw_all := lw_g (lw_at lw_m4 61 rfl) rfl
theorem q865 : (Jvm.Cond.privateMethod ({ cls := "java/lang/AbstractStringBuilder", name := "newCapacity", desc := "(I)I" } : Jvm.MethodName)) ∈ lw_tbl := lw_at lw_m4 62 rfl
theorem q866 : (Jvm.Cond.instanceMethod ({ cls := "java/lang/AbstractStringBuilder", name := "newCapacity", desc := "(I)I" } : Jvm.MethodName)) ∈ lw_all := lw_g (lw_at lw_m4 63 rfl) rfl
theorem q867 : (Jvm.Cond.code ({ cls := "java/lang/AbstractStringBuilder", name := "newCapacity", desc := "(I)I" } : Jvm.MethodName) prog_14_method_10_code (6 : Nat) (Option.some Jvm.ClassFile.FieldType.int)) ∈ lw_all := lw_g (lw_at lw_m4 64 rfl) rfl
theorem q868 : (Jvm.Cond.methodLink "java/lang/AbstractStringBuilder" (114 : Nat) ({ cls := "jdk/internal/util/ArraysSupport", name := "newLength", desc := "(III)I" } : Jvm.MethodName)) ∈ lw_all := lw_g (lw_at lw_m4 65 rfl) rfl
theorem q876 : (Jvm.Cond.constant "java/lang/AbstractStringBuilder" (39 : Nat) (2147483647 : Int32)) ∈ lw_all := lw_g (lw_at lw_m4 73 rfl) rfl
theorem q877 : (Jvm.Cond.methodLink "java/lang/AbstractStringBuilder" (108 : Nat) ({ cls := "java/util/Arrays", name := "copyOf", desc := "([BI)[B" } : Jvm.MethodName)) ∈ lw_all := lw_g (lw_at lw_m4 74 rfl) rfl
theorem q887 : (Jvm.Cond.methodLink "java/lang/AbstractStringBuilder" (83 : Nat) ({ cls := "java/lang/AbstractStringBuilder", name := "isLatin1", desc := "()Z" } : Jvm.MethodName)) ∈ lw_all := lw_g (lw_at lw_m4 84 rfl) rfl
theorem q888 : (Jvm.Cond.instanceMethod ({ cls := "java/lang/AbstractStringBuilder", name := "isLatin1", desc := "()Z" } : Jvm.MethodName)) ∈ lw_all := lw_g (lw_at lw_m4 85 rfl) rfl
theorem q889 : (Jvm.Cond.sameMethod "java/lang/AbstractStringBuilder" "java/lang/AbstractStringBuilder" "isLatin1" "()Z") ∈ lw_all := lw_g (lw_at lw_m4 86 rfl) rfl
theorem q891 : (Jvm.Cond.code ({ cls := "java/lang/AbstractStringBuilder", name := "isLatin1", desc := "()Z" } : Jvm.MethodName) prog_14_method_68_code (1 : Nat) (Option.some Jvm.ClassFile.FieldType.boolean)) ∈ lw_all := lw_g (lw_at lw_m4 88 rfl) rfl
theorem q892 : (Jvm.Cond.methodLink "java/lang/AbstractStringBuilder" (226 : Nat) ({ cls := "java/lang/StringUTF16", name := "putCharsAt", desc := "([BICCCC)I" } : Jvm.MethodName)) ∈ lw_all := lw_g (lw_at lw_m4 89 rfl) rfl
theorem q1018 : (Jvm.Cond.methodLink "java/lang/AbstractStringBuilder" (32 : Nat) ({ cls := "java/lang/String", name := "length", desc := "()I" } : Jvm.MethodName)) ∈ lw_all := lw_g (lw_at lw_m4 215 rfl) rfl
theorem q1027 : (Jvm.Cond.methodLink "java/lang/AbstractStringBuilder" (208 : Nat) ({ cls := "java/lang/AbstractStringBuilder", name := "putStringAt", desc := "(ILjava/lang/String;)V" } : Jvm.MethodName)) ∈ lw_all := lw_g (lw_at lw_m4 224 rfl) rfl
theorem q1028 : (Jvm.Cond.privateMethod ({ cls := "java/lang/AbstractStringBuilder", name := "putStringAt", desc := "(ILjava/lang/String;)V" } : Jvm.MethodName)) ∈ lw_tbl := lw_at lw_m4 225 rfl
theorem q1029 : (Jvm.Cond.instanceMethod ({ cls := "java/lang/AbstractStringBuilder", name := "putStringAt", desc := "(ILjava/lang/String;)V" } : Jvm.MethodName)) ∈ lw_all := lw_g (lw_at lw_m4 226 rfl) rfl
theorem q1030 : (Jvm.Cond.code ({ cls := "java/lang/AbstractStringBuilder", name := "putStringAt", desc := "(ILjava/lang/String;)V" } : Jvm.MethodName) prog_14_method_73_code (3 : Nat) (Option.none : Option Jvm.ClassFile.FieldType)) ∈ lw_all := lw_g (lw_at lw_m4 227 rfl) rfl
theorem q1031 : (Jvm.Cond.methodLink "java/lang/AbstractStringBuilder" (397 : Nat) ({ cls := "java/lang/AbstractStringBuilder", name := "inflateIfNeededFor", desc := "(Ljava/lang/String;)V" } : Jvm.MethodName)) ∈ lw_all := lw_g (lw_at lw_m4 228 rfl) rfl
theorem q1032 : (Jvm.Cond.privateMethod ({ cls := "java/lang/AbstractStringBuilder", name := "inflateIfNeededFor", desc := "(Ljava/lang/String;)V" } : Jvm.MethodName)) ∈ lw_tbl := lw_at lw_m4 229 rfl
theorem q1033 : (Jvm.Cond.instanceMethod ({ cls := "java/lang/AbstractStringBuilder", name := "inflateIfNeededFor", desc := "(Ljava/lang/String;)V" } : Jvm.MethodName)) ∈ lw_all := lw_g (lw_at lw_m4 230 rfl) rfl
theorem q1034 : (Jvm.Cond.code ({ cls := "java/lang/AbstractStringBuilder", name := "inflateIfNeededFor", desc := "(Ljava/lang/String;)V" } : Jvm.MethodName) prog_14_method_71_code (2 : Nat) (Option.none : Option Jvm.ClassFile.FieldType)) ∈ lw_all := lw_g (lw_at lw_m4 231 rfl) rfl
theorem q1035 : (Jvm.Cond.methodLink "java/lang/AbstractStringBuilder" (40 : Nat) ({ cls := "java/lang/String", name := "coder", desc := "()B" } : Jvm.MethodName)) ∈ lw_all := lw_g (lw_at lw_m4 232 rfl) rfl
theorem q1036 : (Jvm.Cond.methodLink "java/lang/AbstractStringBuilder" (195 : Nat) ({ cls := "java/lang/AbstractStringBuilder", name := "inflate", desc := "()V" } : Jvm.MethodName)) ∈ lw_all := lw_g (lw_at lw_m4 233 rfl) rfl
theorem q1037 : (Jvm.Cond.privateMethod ({ cls := "java/lang/AbstractStringBuilder", name := "inflate", desc := "()V" } : Jvm.MethodName)) ∈ lw_tbl := lw_at lw_m4 234 rfl
theorem q1038 : (Jvm.Cond.instanceMethod ({ cls := "java/lang/AbstractStringBuilder", name := "inflate", desc := "()V" } : Jvm.MethodName)) ∈ lw_all := lw_g (lw_at lw_m4 235 rfl) rfl
theorem q1039 : (Jvm.Cond.code ({ cls := "java/lang/AbstractStringBuilder", name := "inflate", desc := "()V" } : Jvm.MethodName) prog_14_method_11_code (2 : Nat) (Option.none : Option Jvm.ClassFile.FieldType)) ∈ lw_all := lw_g (lw_at lw_m4 236 rfl) rfl
theorem q1040 : (Jvm.Cond.methodLink "java/lang/AbstractStringBuilder" (125 : Nat) ({ cls := "java/lang/StringLatin1", name := "inflate", desc := "([BI[BII)V" } : Jvm.MethodName)) ∈ lw_all := lw_g (lw_at lw_m4 237 rfl) rfl
theorem q1059 : (Jvm.Cond.methodLink "java/lang/AbstractStringBuilder" (399 : Nat) ({ cls := "java/lang/String", name := "getBytes", desc := "([BIB)V" } : Jvm.MethodName)) ∈ lw_all := lw_g (lw_at lw_m5 16 rfl) rfl
theorem q1070 : (Jvm.Cond.instanceMethod ({ cls := "java/lang/AbstractStringBuilder", name := "append", desc := "(I)Ljava/lang/AbstractStringBuilder;" } : Jvm.MethodName)) ∈ lw_all := lw_g (lw_at lw_m5 27 rfl) rfl
theorem q1071 : (Jvm.Cond.code ({ cls := "java/lang/AbstractStringBuilder", name := "append", desc := "(I)Ljava/lang/AbstractStringBuilder;" } : Jvm.MethodName) prog_14_method_32_code (4 : Nat) (Option.some (Jvm.ClassFile.FieldType.object "java/lang/AbstractStringBuilder"))) ∈ lw_all := lw_g (lw_at lw_m5 28 rfl) rfl
theorem q1072 : (Jvm.Cond.methodLink "java/lang/AbstractStringBuilder" (245 : Nat) ({ cls := "java/lang/Integer", name := "stringSize", desc := "(I)I" } : Jvm.MethodName)) ∈ lw_all := lw_g (lw_at lw_m5 29 rfl) rfl
theorem q1075 : (Jvm.Cond.methodLink "java/lang/AbstractStringBuilder" (248 : Nat) ({ cls := "java/lang/Integer", name := "getChars", desc := "(II[B)I" } : Jvm.MethodName)) ∈ lw_all := lw_g (lw_at lw_m5 32 rfl) rfl
theorem q1082 : (Jvm.Cond.methodLink "java/lang/AbstractStringBuilder" (251 : Nat) ({ cls := "java/lang/StringUTF16", name := "getChars", desc := "(III[B)I" } : Jvm.MethodName)) ∈ lw_all := lw_g (lw_at lw_m5 39 rfl) rfl
theorem q1104 : (Jvm.Cond.instanceMethod ({ cls := "java/lang/AbstractStringBuilder", name := "getValue", desc := "()[B" } : Jvm.MethodName)) ∈ lw_all := lw_g (lw_at lw_m5 61 rfl) rfl
theorem q1105 : (Jvm.Cond.sameMethod "java/lang/AbstractStringBuilder" "java/lang/AbstractStringBuilder" "getValue" "()[B") ∈ lw_all := lw_g (lw_at lw_m5 62 rfl) rfl
theorem q1107 : (Jvm.Cond.code ({ cls := "java/lang/AbstractStringBuilder", name := "getValue", desc := "()[B" } : Jvm.MethodName) prog_14_method_64_code (1 : Nat) (Option.some (Jvm.ClassFile.FieldType.array Jvm.ClassFile.FieldType.byte))) ∈ lw_all := lw_g (lw_at lw_m5 64 rfl) rfl
theorem q1109 : (Jvm.Cond.instanceMethod ({ cls := "java/lang/AbstractStringBuilder", name := "length", desc := "()I" } : Jvm.MethodName)) ∈ lw_all := lw_g (lw_at lw_m5 66 rfl) rfl
theorem q1110 : (Jvm.Cond.sameMethod "java/lang/AbstractStringBuilder" "java/lang/AbstractStringBuilder" "length" "()I") ∈ lw_all := lw_g (lw_at lw_m5 67 rfl) rfl
theorem q1115 : (Jvm.Cond.code ({ cls := "java/lang/AbstractStringBuilder", name := "length", desc := "()I" } : Jvm.MethodName) prog_14_method_6_code (1 : Nat) (Option.some Jvm.ClassFile.FieldType.int)) ∈ lw_all := lw_g (lw_at lw_m5 72 rfl) rfl
theorem q1181 : (Jvm.Cond.methodLink "java/lang/AbstractStringBuilder" (133 : Nat) ({ cls := "java/lang/StringLatin1", name := "fillNull", desc := "([BII)V" } : Jvm.MethodName)) ∈ lw_all := lw_g (lw_at lw_m5 138 rfl) rfl
theorem q1216 : (Jvm.Cond.methodLink "java/lang/AbstractStringBuilder" (137 : Nat) ({ cls := "java/lang/StringUTF16", name := "fillNull", desc := "([BII)V" } : Jvm.MethodName)) ∈ lw_all := lw_g (lw_at lw_m5 173 rfl) rfl
theorem q1647 : (Jvm.Cond.instanceMethod ({ cls := "java/lang/AbstractStringBuilder", name := "append", desc := "(C)Ljava/lang/AbstractStringBuilder;" } : Jvm.MethodName)) ∈ lw_all := lw_g (lw_at lw_m7 124 rfl) rfl
theorem q1648 : (Jvm.Cond.code ({ cls := "java/lang/AbstractStringBuilder", name := "append", desc := "(C)Ljava/lang/AbstractStringBuilder;" } : Jvm.MethodName) prog_14_method_31_code (2 : Nat) (Option.some (Jvm.ClassFile.FieldType.object "java/lang/AbstractStringBuilder"))) ∈ lw_all := lw_g (lw_at lw_m7 125 rfl) rfl
theorem q1649 : (Jvm.Cond.methodLink "java/lang/AbstractStringBuilder" (191 : Nat) ({ cls := "java/lang/StringLatin1", name := "canEncode", desc := "(C)Z" } : Jvm.MethodName)) ∈ lw_all := lw_g (lw_at lw_m7 126 rfl) rfl
theorem q1652 : (Jvm.Cond.methodLink "java/lang/AbstractStringBuilder" (197 : Nat) ({ cls := "java/lang/StringUTF16", name := "putCharSB", desc := "([BII)V" } : Jvm.MethodName)) ∈ lw_all := lw_g (lw_at lw_m7 129 rfl) rfl
theorem q1684 : (Jvm.Cond.instanceMethod ({ cls := "java/lang/AbstractStringBuilder", name := "charAt", desc := "(I)C" } : Jvm.MethodName)) ∈ lw_all := lw_g (lw_at lw_m7 161 rfl) rfl
theorem q1685 : (Jvm.Cond.code ({ cls := "java/lang/AbstractStringBuilder", name := "charAt", desc := "(I)C" } : Jvm.MethodName) prog_14_method_14_code (5 : Nat) (Option.some Jvm.ClassFile.FieldType.char)) ∈ lw_all := lw_g (lw_at lw_m7 162 rfl) rfl
theorem q1686 : (Jvm.Cond.methodLink "java/lang/AbstractStringBuilder" (138 : Nat) ({ cls := "java/lang/Math", name := "min", desc := "(II)I" } : Jvm.MethodName)) ∈ lw_all := lw_g (lw_at lw_m7 163 rfl) rfl
theorem q1687 : (Jvm.Cond.methodLink "java/lang/AbstractStringBuilder" (144 : Nat) ({ cls := "java/lang/String", name := "checkIndex", desc := "(II)V" } : Jvm.MethodName)) ∈ lw_all := lw_g (lw_at lw_m7 164 rfl) rfl
theorem q1688 : (Jvm.Cond.methodLink "java/lang/AbstractStringBuilder" (148 : Nat) ({ cls := "java/lang/StringUTF16", name := "getChar", desc := "([BI)C" } : Jvm.MethodName)) ∈ lw_all := lw_g (lw_at lw_m7 165 rfl) rfl
theorem q2753 : (Jvm.Cond.sameMethod "java/lang/AbstractStringBuilder" "java/lang/AbstractStringBuilder" "setLength" "(I)V") ∈ lw_all := lw_g (lw_at lw_m12 30 rfl) rfl
theorem q2754 : (Jvm.Cond.sameMethod "java/lang/AbstractStringBuilder" "java/lang/AbstractStringBuilder" "append" "(Ljava/lang/String;)Ljava/lang/AbstractStringBuilder;") ∈ lw_all := lw_g (lw_at lw_m12 31 rfl) rfl
theorem q2755 : (Jvm.Cond.sameMethod "java/lang/AbstractStringBuilder" "java/lang/AbstractStringBuilder" "appendNull" "()Ljava/lang/AbstractStringBuilder;") ∈ lw_all := lw_g (lw_at lw_m12 32 rfl) rfl
theorem q2756 : (Jvm.Cond.sameMethod "java/lang/AbstractStringBuilder" "java/lang/AbstractStringBuilder" "ensureCapacityInternal" "(I)V") ∈ lw_all := lw_g (lw_at lw_m12 33 rfl) rfl
theorem q2757 : (Jvm.Cond.sameMethod "java/lang/AbstractStringBuilder" "java/lang/AbstractStringBuilder" "newCapacity" "(I)I") ∈ lw_all := lw_g (lw_at lw_m12 34 rfl) rfl
theorem q2758 : (Jvm.Cond.sameMethod "java/lang/AbstractStringBuilder" "java/lang/AbstractStringBuilder" "putStringAt" "(ILjava/lang/String;)V") ∈ lw_all := lw_g (lw_at lw_m12 35 rfl) rfl
theorem q2759 : (Jvm.Cond.sameMethod "java/lang/AbstractStringBuilder" "java/lang/AbstractStringBuilder" "inflateIfNeededFor" "(Ljava/lang/String;)V") ∈ lw_all := lw_g (lw_at lw_m12 36 rfl) rfl
theorem q2760 : (Jvm.Cond.sameMethod "java/lang/AbstractStringBuilder" "java/lang/AbstractStringBuilder" "inflate" "()V") ∈ lw_all := lw_g (lw_at lw_m12 37 rfl) rfl
theorem q2761 : (Jvm.Cond.sameMethod "java/lang/AbstractStringBuilder" "java/lang/AbstractStringBuilder" "append" "(I)Ljava/lang/AbstractStringBuilder;") ∈ lw_all := lw_g (lw_at lw_m12 38 rfl) rfl
theorem q2763 : (Jvm.Cond.sameMethod "java/lang/AbstractStringBuilder" "java/lang/AbstractStringBuilder" "append" "(C)Ljava/lang/AbstractStringBuilder;") ∈ lw_all := lw_g (lw_at lw_m12 40 rfl) rfl
theorem q2764 : (Jvm.Cond.sameMethod "java/lang/AbstractStringBuilder" "java/lang/AbstractStringBuilder" "charAt" "(I)C") ∈ lw_all := lw_g (lw_at lw_m12 41 rfl) rfl
/-! java/lang/StringBuilder -/
set_option maxRecDepth 100000
def RJ3 : String := "java/lang/StringBuilder"
def TJ3 : u_T := fun k => match k with
  | 0 => ("java/lang/AbstractStringBuilder", "value", "[B", false)
  | 1 => ("java/lang/AbstractStringBuilder", "coder", "B", false)
  | 2 => ("java/lang/AbstractStringBuilder", "maybeLatin1", "Z", false)
  | _ => ("java/lang/AbstractStringBuilder", "count", "I", false)
def tyJ3 : Nat → FieldType := fun k => match k with
  | 0 => .array .byte
  | 1 => .byte
  | 2 => .boolean
  | _ => .int
abbrev wsJ30 : List Cond := u_ws RJ3 TJ3 4
theorem nmJ3 : ∀ a, a < 4 → ∀ b, b < 4 → a ≠ b → (TJ3 a).2.1 ≠ (TJ3 b).2.1 := by decide +kernel
theorem tyJ3_ok : ∀ k, k < 4 → parseFieldDescriptor (TJ3 k).2.2.1 = some (tyJ3 k) := by decide +kernel
abbrev cJ3_init : ByteArray := prog_36_method_1_code
def yJ3_init : MethodName := ⟨RJ3, "<init>", "()V"⟩
def dkwJ3_init_0 : List UInt8 := [42, 16, 16, 183, 0, 1, 177]
abbrev dktJ3_init_0 : List UInt8 := dkwJ3_init_0 ++ []
theorem dksJ3_init_0 : cJ3_init.data.toList.drop 0 = dktJ3_init_0 := by decide +kernel
theorem dJ3_init_0 : decode cJ3_init 0 = .ok (.aload_n 0, 1) := dk_42 (dk_at dksJ3_init_0 0 rfl rfl)
theorem dJ3_init_1 : decode cJ3_init 1 = .ok (.bipush 16, 2) := dk_16 16 (dk_at dksJ3_init_0 1 rfl rfl)
theorem dJ3_init_3 : decode cJ3_init 3 = .ok (.invokespecial 1, 3) := dk_183 0 1 (dk_at dksJ3_init_0 3 rfl rfl)
theorem dJ3_init_6 : decode cJ3_init 6 = .ok (.return_, 1) := dk_177 (dk_at dksJ3_init_0 6 rfl rfl)
abbrev cJ3_setLength : ByteArray := prog_36_method_89_code
def yJ3_setLength : MethodName := ⟨RJ3, "setLength", "(I)V"⟩
def dkwJ3_setLength_0 : List UInt8 := [42, 27, 183, 1, 77, 177]
abbrev dktJ3_setLength_0 : List UInt8 := dkwJ3_setLength_0 ++ []
theorem dksJ3_setLength_0 : cJ3_setLength.data.toList.drop 0 = dktJ3_setLength_0 := by decide +kernel
theorem dJ3_setLength_0 : decode cJ3_setLength 0 = .ok (.aload_n 0, 1) := dk_42 (dk_at dksJ3_setLength_0 0 rfl rfl)
theorem dJ3_setLength_1 : decode cJ3_setLength 1 = .ok (.iload_n 1, 1) := dk_27 (dk_at dksJ3_setLength_0 1 rfl rfl)
theorem dJ3_setLength_2 : decode cJ3_setLength 2 = .ok (.invokespecial 333, 3) := dk_183 1 77 (dk_at dksJ3_setLength_0 2 rfl rfl)
theorem dJ3_setLength_5 : decode cJ3_setLength 5 = .ok (.return_, 1) := dk_177 (dk_at dksJ3_setLength_0 5 rfl rfl)
abbrev cJ3_append : ByteArray := prog_36_method_7_code
def yJ3_append : MethodName := ⟨RJ3, "append", "(Ljava/lang/String;)Ljava/lang/StringBuilder;"⟩
def dkwJ3_append_0 : List UInt8 := [42, 43, 183, 0, 29, 87, 42, 176]
abbrev dktJ3_append_0 : List UInt8 := dkwJ3_append_0 ++ []
theorem dksJ3_append_0 : cJ3_append.data.toList.drop 0 = dktJ3_append_0 := by decide +kernel
theorem dJ3_append_0 : decode cJ3_append 0 = .ok (.aload_n 0, 1) := dk_42 (dk_at dksJ3_append_0 0 rfl rfl)
theorem dJ3_append_1 : decode cJ3_append 1 = .ok (.aload_n 1, 1) := dk_43 (dk_at dksJ3_append_0 1 rfl rfl)
theorem dJ3_append_2 : decode cJ3_append 2 = .ok (.invokespecial 29, 3) := dk_183 0 29 (dk_at dksJ3_append_0 2 rfl rfl)
theorem dJ3_append_5 : decode cJ3_append 5 = .ok (.pop, 1) := dk_87 (dk_at dksJ3_append_0 5 rfl rfl)
theorem dJ3_append_6 : decode cJ3_append 6 = .ok (.aload_n 0, 1) := dk_42 (dk_at dksJ3_append_0 6 rfl rfl)
theorem dJ3_append_7 : decode cJ3_append 7 = .ok (.areturn, 1) := dk_176 (dk_at dksJ3_append_0 7 rfl rfl)
abbrev cJ3_append_2 : ByteArray := prog_36_method_15_code
def yJ3_append_2 : MethodName := ⟨RJ3, "append", "(I)Ljava/lang/StringBuilder;"⟩
def dkwJ3_append_2_0 : List UInt8 := [42, 27, 183, 0, 53, 87, 42, 176]
abbrev dktJ3_append_2_0 : List UInt8 := dkwJ3_append_2_0 ++ []
theorem dksJ3_append_2_0 : cJ3_append_2.data.toList.drop 0 = dktJ3_append_2_0 := by decide +kernel
theorem dJ3_append_2_0 : decode cJ3_append_2 0 = .ok (.aload_n 0, 1) := dk_42 (dk_at dksJ3_append_2_0 0 rfl rfl)
theorem dJ3_append_2_1 : decode cJ3_append_2 1 = .ok (.iload_n 1, 1) := dk_27 (dk_at dksJ3_append_2_0 1 rfl rfl)
theorem dJ3_append_2_2 : decode cJ3_append_2 2 = .ok (.invokespecial 53, 3) := dk_183 0 53 (dk_at dksJ3_append_2_0 2 rfl rfl)
theorem dJ3_append_2_5 : decode cJ3_append_2 5 = .ok (.pop, 1) := dk_87 (dk_at dksJ3_append_2_0 5 rfl rfl)
theorem dJ3_append_2_6 : decode cJ3_append_2 6 = .ok (.aload_n 0, 1) := dk_42 (dk_at dksJ3_append_2_0 6 rfl rfl)
theorem dJ3_append_2_7 : decode cJ3_append_2 7 = .ok (.areturn, 1) := dk_176 (dk_at dksJ3_append_2_0 7 rfl rfl)
abbrev cJ3_toString : ByteArray := prog_36_method_42_code
def yJ3_toString : MethodName := ⟨RJ3, "toString", "()Ljava/lang/String;"⟩
def dkwJ3_toString_0 : List UInt8 := [187, 0, 18, 89, 42, 183, 0, 137, 176]
abbrev dktJ3_toString_0 : List UInt8 := dkwJ3_toString_0 ++ []
theorem dksJ3_toString_0 : cJ3_toString.data.toList.drop 0 = dktJ3_toString_0 := by decide +kernel
theorem dJ3_toString_0 : decode cJ3_toString 0 = .ok (.new 18, 3) := dk_187 0 18 (dk_at dksJ3_toString_0 0 rfl rfl)
theorem dJ3_toString_3 : decode cJ3_toString 3 = .ok (.dup, 1) := dk_89 (dk_at dksJ3_toString_0 3 rfl rfl)
theorem dJ3_toString_4 : decode cJ3_toString 4 = .ok (.aload_n 0, 1) := dk_42 (dk_at dksJ3_toString_0 4 rfl rfl)
theorem dJ3_toString_5 : decode cJ3_toString 5 = .ok (.invokespecial 137, 3) := dk_183 0 137 (dk_at dksJ3_toString_0 5 rfl rfl)
theorem dJ3_toString_8 : decode cJ3_toString 8 = .ok (.areturn, 1) := dk_176 (dk_at dksJ3_toString_0 8 rfl rfl)
abbrev cJ3_length : ByteArray := prog_36_method_93_code
def yJ3_length : MethodName := ⟨RJ3, "length", "()I"⟩
theorem dJ3_length_0 : decode cJ3_length 0 = .ok (.aload_n 0, 1) := by decide +kernel
theorem dJ3_length_1 : decode cJ3_length 1 = .ok (.invokespecial 343, 3) := by decide +kernel
theorem dJ3_length_4 : decode cJ3_length 4 = .ok (.ireturn, 1) := by decide +kernel
abbrev cJ3_append_3 : ByteArray := prog_36_method_14_code
def yJ3_append_3 : MethodName := ⟨RJ3, "append", "(C)Ljava/lang/StringBuilder;"⟩
def dkwJ3_append_3_0 : List UInt8 := [42, 27, 183, 0, 50, 87, 42, 176]
abbrev dktJ3_append_3_0 : List UInt8 := dkwJ3_append_3_0 ++ []
theorem dksJ3_append_3_0 : cJ3_append_3.data.toList.drop 0 = dktJ3_append_3_0 := by decide +kernel
theorem dJ3_append_3_0 : decode cJ3_append_3 0 = .ok (.aload_n 0, 1) := dk_42 (dk_at dksJ3_append_3_0 0 rfl rfl)
theorem dJ3_append_3_1 : decode cJ3_append_3 1 = .ok (.iload_n 1, 1) := dk_27 (dk_at dksJ3_append_3_0 1 rfl rfl)
theorem dJ3_append_3_2 : decode cJ3_append_3 2 = .ok (.invokespecial 50, 3) := dk_183 0 50 (dk_at dksJ3_append_3_0 2 rfl rfl)
theorem dJ3_append_3_5 : decode cJ3_append_3 5 = .ok (.pop, 1) := dk_87 (dk_at dksJ3_append_3_0 5 rfl rfl)
theorem dJ3_append_3_6 : decode cJ3_append_3 6 = .ok (.aload_n 0, 1) := dk_42 (dk_at dksJ3_append_3_0 6 rfl rfl)
theorem dJ3_append_3_7 : decode cJ3_append_3 7 = .ok (.areturn, 1) := dk_176 (dk_at dksJ3_append_3_0 7 rfl rfl)
abbrev cJ3_charAt : ByteArray := prog_36_method_88_code
def yJ3_charAt : MethodName := ⟨RJ3, "charAt", "(I)C"⟩
def dkwJ3_charAt_0 : List UInt8 := [42, 27, 183, 1, 73, 172]
abbrev dktJ3_charAt_0 : List UInt8 := dkwJ3_charAt_0 ++ []
theorem dksJ3_charAt_0 : cJ3_charAt.data.toList.drop 0 = dktJ3_charAt_0 := by decide +kernel
theorem dJ3_charAt_0 : decode cJ3_charAt 0 = .ok (.aload_n 0, 1) := dk_42 (dk_at dksJ3_charAt_0 0 rfl rfl)
theorem dJ3_charAt_1 : decode cJ3_charAt 1 = .ok (.iload_n 1, 1) := dk_27 (dk_at dksJ3_charAt_0 1 rfl rfl)
theorem dJ3_charAt_2 : decode cJ3_charAt 2 = .ok (.invokespecial 329, 3) := dk_183 1 73 (dk_at dksJ3_charAt_0 2 rfl rfl)
theorem dJ3_charAt_5 : decode cJ3_charAt 5 = .ok (.ireturn, 1) := dk_172 (dk_at dksJ3_charAt_0 5 rfl rfl)
theorem q92 : (Jvm.Cond.initialized "java/lang/StringBuilder") ∈ lw_all := lw_g (lw_at lw_m1 9 rfl) rfl
theorem q263 : (Jvm.Cond.instantiable "java/lang/StringBuilder" (4 : Nat)) ∈ lw_all := lw_g (lw_at lw_m1 180 rfl) rfl
theorem q265 : (Jvm.Cond.instanceMethod ({ cls := "java/lang/StringBuilder", name := "<init>", desc := "()V" } : Jvm.MethodName)) ∈ lw_all := lw_g (lw_at lw_m1 182 rfl) rfl
theorem q266 : (Jvm.Cond.code ({ cls := "java/lang/StringBuilder", name := "<init>", desc := "()V" } : Jvm.MethodName) prog_36_method_1_code (1 : Nat) (Option.none : Option Jvm.ClassFile.FieldType)) ∈ lw_all := lw_g (lw_at lw_m1 183 rfl) rfl
theorem q267 : (Jvm.Cond.methodLink "java/lang/StringBuilder" (1 : Nat) ({ cls := "java/lang/AbstractStringBuilder", name := "<init>", desc := "(I)V" } : Jvm.MethodName)) ∈ lw_all := lw_g (lw_at lw_m1 184 rfl) rfl
theorem q374 : (Jvm.Cond.lays "java/lang/StringBuilder" "java/lang/AbstractStringBuilder" "value" "[B") ∈ lw_all := lw_g (lw_at lw_m2 51 rfl) rfl
theorem q376 : (Jvm.Cond.lays "java/lang/StringBuilder" "java/lang/AbstractStringBuilder" "coder" "B") ∈ lw_all := lw_g (lw_at lw_m2 53 rfl) rfl
theorem q378 : (Jvm.Cond.lays "java/lang/StringBuilder" "java/lang/AbstractStringBuilder" "maybeLatin1" "Z") ∈ lw_all := lw_g (lw_at lw_m2 55 rfl) rfl
theorem q380 : (Jvm.Cond.lays "java/lang/StringBuilder" "java/lang/AbstractStringBuilder" "count" "I") ∈ lw_all := lw_g (lw_at lw_m2 57 rfl) rfl
theorem q382 : (Jvm.Cond.superclass "java/lang/StringBuilder" "java/lang/AbstractStringBuilder") ∈ lw_all := lw_g (lw_at lw_m2 59 rfl) rfl
theorem q517 : (Jvm.Cond.selects "java/lang/StringBuilder" ({ cls := "java/lang/Object", name := "getClass", desc := "()Ljava/lang/Class;" } : Jvm.MethodName) ({ cls := "java/lang/Object", name := "getClass", desc := "()Ljava/lang/Class;" } : Jvm.MethodName)) ∈ lw_all := lw_g (lw_at lw_m2 194 rfl) rfl
theorem q835 : (Jvm.Cond.instanceMethod ({ cls := "java/lang/StringBuilder", name := "setLength", desc := "(I)V" } : Jvm.MethodName)) ∈ lw_all := lw_g (lw_at lw_m4 32 rfl) rfl
theorem q836 : (Jvm.Cond.selects "java/lang/StringBuilder" ({ cls := "java/lang/StringBuilder", name := "setLength", desc := "(I)V" } : Jvm.MethodName) ({ cls := "java/lang/StringBuilder", name := "setLength", desc := "(I)V" } : Jvm.MethodName)) ∈ lw_all := lw_g (lw_at lw_m4 33 rfl) rfl
theorem q837 : (Jvm.Cond.code ({ cls := "java/lang/StringBuilder", name := "setLength", desc := "(I)V" } : Jvm.MethodName) prog_36_method_89_code (2 : Nat) (Option.none : Option Jvm.ClassFile.FieldType)) ∈ lw_all := lw_g (lw_at lw_m4 34 rfl) rfl
theorem q838 : (Jvm.Cond.methodLink "java/lang/StringBuilder" (333 : Nat) ({ cls := "java/lang/AbstractStringBuilder", name := "setLength", desc := "(I)V" } : Jvm.MethodName)) ∈ lw_all := lw_g (lw_at lw_m4 35 rfl) rfl
theorem q850 : (Jvm.Cond.instanceMethod ({ cls := "java/lang/StringBuilder", name := "append", desc := "(Ljava/lang/String;)Ljava/lang/StringBuilder;" } : Jvm.MethodName)) ∈ lw_all := lw_g (lw_at lw_m4 47 rfl) rfl
theorem q851 : (Jvm.Cond.selects "java/lang/StringBuilder" ({ cls := "java/lang/StringBuilder", name := "append", desc := "(Ljava/lang/String;)Ljava/lang/StringBuilder;" } : Jvm.MethodName) ({ cls := "java/lang/StringBuilder", name := "append", desc := "(Ljava/lang/String;)Ljava/lang/StringBuilder;" } : Jvm.MethodName)) ∈ lw_all := lw_g (lw_at lw_m4 48 rfl) rfl
theorem q852 : (Jvm.Cond.code ({ cls := "java/lang/StringBuilder", name := "append", desc := "(Ljava/lang/String;)Ljava/lang/StringBuilder;" } : Jvm.MethodName) prog_36_method_7_code (2 : Nat) (Option.some (Jvm.ClassFile.FieldType.object "java/lang/StringBuilder"))) ∈ lw_all := lw_g (lw_at lw_m4 49 rfl) rfl
theorem q853 : (Jvm.Cond.methodLink "java/lang/StringBuilder" (29 : Nat) ({ cls := "java/lang/AbstractStringBuilder", name := "append", desc := "(Ljava/lang/String;)Ljava/lang/AbstractStringBuilder;" } : Jvm.MethodName)) ∈ lw_all := lw_g (lw_at lw_m4 50 rfl) rfl
theorem q890 : (Jvm.Cond.selects "java/lang/StringBuilder" ({ cls := "java/lang/AbstractStringBuilder", name := "isLatin1", desc := "()Z" } : Jvm.MethodName) ({ cls := "java/lang/AbstractStringBuilder", name := "isLatin1", desc := "()Z" } : Jvm.MethodName)) ∈ lw_all := lw_g (lw_at lw_m4 87 rfl) rfl
theorem q1066 : (Jvm.Cond.instanceMethod ({ cls := "java/lang/StringBuilder", name := "append", desc := "(I)Ljava/lang/StringBuilder;" } : Jvm.MethodName)) ∈ lw_all := lw_g (lw_at lw_m5 23 rfl) rfl
theorem q1067 : (Jvm.Cond.selects "java/lang/StringBuilder" ({ cls := "java/lang/StringBuilder", name := "append", desc := "(I)Ljava/lang/StringBuilder;" } : Jvm.MethodName) ({ cls := "java/lang/StringBuilder", name := "append", desc := "(I)Ljava/lang/StringBuilder;" } : Jvm.MethodName)) ∈ lw_all := lw_g (lw_at lw_m5 24 rfl) rfl
theorem q1068 : (Jvm.Cond.code ({ cls := "java/lang/StringBuilder", name := "append", desc := "(I)Ljava/lang/StringBuilder;" } : Jvm.MethodName) prog_36_method_15_code (2 : Nat) (Option.some (Jvm.ClassFile.FieldType.object "java/lang/StringBuilder"))) ∈ lw_all := lw_g (lw_at lw_m5 25 rfl) rfl
theorem q1069 : (Jvm.Cond.methodLink "java/lang/StringBuilder" (53 : Nat) ({ cls := "java/lang/AbstractStringBuilder", name := "append", desc := "(I)Ljava/lang/AbstractStringBuilder;" } : Jvm.MethodName)) ∈ lw_all := lw_g (lw_at lw_m5 26 rfl) rfl
theorem q1091 : (Jvm.Cond.instanceMethod ({ cls := "java/lang/StringBuilder", name := "toString", desc := "()Ljava/lang/String;" } : Jvm.MethodName)) ∈ lw_all := lw_g (lw_at lw_m5 48 rfl) rfl
theorem q1092 : (Jvm.Cond.selects "java/lang/StringBuilder" ({ cls := "java/lang/StringBuilder", name := "toString", desc := "()Ljava/lang/String;" } : Jvm.MethodName) ({ cls := "java/lang/StringBuilder", name := "toString", desc := "()Ljava/lang/String;" } : Jvm.MethodName)) ∈ lw_all := lw_g (lw_at lw_m5 49 rfl) rfl
theorem q1093 : (Jvm.Cond.code ({ cls := "java/lang/StringBuilder", name := "toString", desc := "()Ljava/lang/String;" } : Jvm.MethodName) prog_36_method_42_code (1 : Nat) (Option.some (Jvm.ClassFile.FieldType.object "java/lang/String"))) ∈ lw_all := lw_g (lw_at lw_m5 50 rfl) rfl
theorem q1094 : (Jvm.Cond.classLink "java/lang/StringBuilder" (18 : Nat) "java/lang/String") ∈ lw_all := lw_g (lw_at lw_m5 51 rfl) rfl
theorem q1096 : (Jvm.Cond.methodLink "java/lang/StringBuilder" (137 : Nat) ({ cls := "java/lang/String", name := "<init>", desc := "(Ljava/lang/StringBuilder;)V" } : Jvm.MethodName)) ∈ lw_all := lw_g (lw_at lw_m5 53 rfl) rfl
theorem q1106 : (Jvm.Cond.selects "java/lang/StringBuilder" ({ cls := "java/lang/AbstractStringBuilder", name := "getValue", desc := "()[B" } : Jvm.MethodName) ({ cls := "java/lang/AbstractStringBuilder", name := "getValue", desc := "()[B" } : Jvm.MethodName)) ∈ lw_all := lw_g (lw_at lw_m5 63 rfl) rfl
theorem q1111 : (Jvm.Cond.selects "java/lang/StringBuilder" ({ cls := "java/lang/AbstractStringBuilder", name := "length", desc := "()I" } : Jvm.MethodName) ({ cls := "java/lang/StringBuilder", name := "length", desc := "()I" } : Jvm.MethodName)) ∈ lw_all := lw_g (lw_at lw_m5 68 rfl) rfl
theorem q1112 : (Jvm.Cond.instanceMethod ({ cls := "java/lang/StringBuilder", name := "length", desc := "()I" } : Jvm.MethodName)) ∈ lw_all := lw_g (lw_at lw_m5 69 rfl) rfl
theorem q1113 : (Jvm.Cond.code ({ cls := "java/lang/StringBuilder", name := "length", desc := "()I" } : Jvm.MethodName) prog_36_method_93_code (1 : Nat) (Option.some Jvm.ClassFile.FieldType.int)) ∈ lw_all := lw_g (lw_at lw_m5 70 rfl) rfl
theorem q1114 : (Jvm.Cond.methodLink "java/lang/StringBuilder" (343 : Nat) ({ cls := "java/lang/AbstractStringBuilder", name := "length", desc := "()I" } : Jvm.MethodName)) ∈ lw_all := lw_g (lw_at lw_m5 71 rfl) rfl
theorem q1643 : (Jvm.Cond.instanceMethod ({ cls := "java/lang/StringBuilder", name := "append", desc := "(C)Ljava/lang/StringBuilder;" } : Jvm.MethodName)) ∈ lw_all := lw_g (lw_at lw_m7 120 rfl) rfl
theorem q1644 : (Jvm.Cond.selects "java/lang/StringBuilder" ({ cls := "java/lang/StringBuilder", name := "append", desc := "(C)Ljava/lang/StringBuilder;" } : Jvm.MethodName) ({ cls := "java/lang/StringBuilder", name := "append", desc := "(C)Ljava/lang/StringBuilder;" } : Jvm.MethodName)) ∈ lw_all := lw_g (lw_at lw_m7 121 rfl) rfl
theorem q1645 : (Jvm.Cond.code ({ cls := "java/lang/StringBuilder", name := "append", desc := "(C)Ljava/lang/StringBuilder;" } : Jvm.MethodName) prog_36_method_14_code (2 : Nat) (Option.some (Jvm.ClassFile.FieldType.object "java/lang/StringBuilder"))) ∈ lw_all := lw_g (lw_at lw_m7 122 rfl) rfl
theorem q1646 : (Jvm.Cond.methodLink "java/lang/StringBuilder" (50 : Nat) ({ cls := "java/lang/AbstractStringBuilder", name := "append", desc := "(C)Ljava/lang/AbstractStringBuilder;" } : Jvm.MethodName)) ∈ lw_all := lw_g (lw_at lw_m7 123 rfl) rfl
theorem q1680 : (Jvm.Cond.instanceMethod ({ cls := "java/lang/StringBuilder", name := "charAt", desc := "(I)C" } : Jvm.MethodName)) ∈ lw_all := lw_g (lw_at lw_m7 157 rfl) rfl
theorem q1681 : (Jvm.Cond.selects "java/lang/StringBuilder" ({ cls := "java/lang/StringBuilder", name := "charAt", desc := "(I)C" } : Jvm.MethodName) ({ cls := "java/lang/StringBuilder", name := "charAt", desc := "(I)C" } : Jvm.MethodName)) ∈ lw_all := lw_g (lw_at lw_m7 158 rfl) rfl
theorem q1682 : (Jvm.Cond.code ({ cls := "java/lang/StringBuilder", name := "charAt", desc := "(I)C" } : Jvm.MethodName) prog_36_method_88_code (2 : Nat) (Option.some Jvm.ClassFile.FieldType.char)) ∈ lw_all := lw_g (lw_at lw_m7 159 rfl) rfl
theorem q1683 : (Jvm.Cond.methodLink "java/lang/StringBuilder" (329 : Nat) ({ cls := "java/lang/AbstractStringBuilder", name := "charAt", desc := "(I)C" } : Jvm.MethodName)) ∈ lw_all := lw_g (lw_at lw_m7 160 rfl) rfl
theorem q2762 : (Jvm.Cond.selects "java/lang/StringBuilder" ({ cls := "java/lang/StringBuilder", name := "length", desc := "()I" } : Jvm.MethodName) ({ cls := "java/lang/StringBuilder", name := "length", desc := "()I" } : Jvm.MethodName)) ∈ lw_all := lw_g (lw_at lw_m12 39 rfl) rfl
theorem q2791 : (Jvm.Cond.castable "java/lang/StringBuilder" "java/lang/Object") ∈ lw_tbl := lw_at lw_m12 68 rfl
theorem in_J3 : ∀ w ∈ wsJ30, w ∈ lw_all := lw_in wsJ30 [374, 376, 378, 380] (by decide +kernel) (by decide +kernel)
/-! java/lang/String -/
set_option maxRecDepth 100000
def RJ4 : String := "java/lang/String"
def TJ4 : u_T := fun k => match k with
  | 0 => ("java/lang/String", "value", "[B", true)
  | 1 => ("java/lang/String", "coder", "B", true)
  | 2 => ("java/lang/String", "hash", "I", false)
  | _ => ("java/lang/String", "hashIsZero", "Z", false)
def tyJ4 : Nat → FieldType := fun k => match k with
  | 0 => .array .byte
  | 1 => .byte
  | 2 => .int
  | _ => .boolean
abbrev wsJ40 : List Cond := u_ws RJ4 TJ4 4
theorem nmJ4 : ∀ a, a < 4 → ∀ b, b < 4 → a ≠ b → (TJ4 a).2.1 ≠ (TJ4 b).2.1 := by decide +kernel
theorem tyJ4_ok : ∀ k, k < 4 → parseFieldDescriptor (TJ4 k).2.2.1 = some (tyJ4 k) := by decide +kernel
abbrev cJ4_checkBoundsBeginEnd : ByteArray := prog_35_method_158_code
def yJ4_checkBoundsBeginEnd : MethodName := ⟨RJ4, "checkBoundsBeginEnd", "(III)V"⟩
def dkwJ4_checkBoundsBeginEnd_0 : List UInt8 := [26, 27, 28, 178, 4, 29, 184, 4, 38, 87, 177]
abbrev dktJ4_checkBoundsBeginEnd_0 : List UInt8 := dkwJ4_checkBoundsBeginEnd_0 ++ []
theorem dksJ4_checkBoundsBeginEnd_0 : cJ4_checkBoundsBeginEnd.data.toList.drop 0 = dktJ4_checkBoundsBeginEnd_0 := by decide +kernel
theorem dJ4_checkBoundsBeginEnd_0 : decode cJ4_checkBoundsBeginEnd 0 = .ok (.iload_n 0, 1) := dk_26 (dk_at dksJ4_checkBoundsBeginEnd_0 0 rfl rfl)
theorem dJ4_checkBoundsBeginEnd_1 : decode cJ4_checkBoundsBeginEnd 1 = .ok (.iload_n 1, 1) := dk_27 (dk_at dksJ4_checkBoundsBeginEnd_0 1 rfl rfl)
theorem dJ4_checkBoundsBeginEnd_2 : decode cJ4_checkBoundsBeginEnd 2 = .ok (.iload_n 2, 1) := dk_28 (dk_at dksJ4_checkBoundsBeginEnd_0 2 rfl rfl)
theorem dJ4_checkBoundsBeginEnd_3 : decode cJ4_checkBoundsBeginEnd 3 = .ok (.getstatic 1053, 3) := dk_178 4 29 (dk_at dksJ4_checkBoundsBeginEnd_0 3 rfl rfl)
theorem dJ4_checkBoundsBeginEnd_6 : decode cJ4_checkBoundsBeginEnd 6 = .ok (.invokestatic 1062, 3) := dk_184 4 38 (dk_at dksJ4_checkBoundsBeginEnd_0 6 rfl rfl)
theorem dJ4_checkBoundsBeginEnd_9 : decode cJ4_checkBoundsBeginEnd 9 = .ok (.pop, 1) := dk_87 (dk_at dksJ4_checkBoundsBeginEnd_0 9 rfl rfl)
theorem dJ4_checkBoundsBeginEnd_10 : decode cJ4_checkBoundsBeginEnd 10 = .ok (.return_, 1) := dk_177 (dk_at dksJ4_checkBoundsBeginEnd_0 10 rfl rfl)
abbrev cJ4_length : ByteArray := prog_35_method_54_code
def yJ4_length : MethodName := ⟨RJ4, "length", "()I"⟩
def dkwJ4_length_0 : List UInt8 := [42, 180, 0, 9, 190, 42, 182, 1, 79, 122, 172]
abbrev dktJ4_length_0 : List UInt8 := dkwJ4_length_0 ++ []
theorem dksJ4_length_0 : cJ4_length.data.toList.drop 0 = dktJ4_length_0 := by decide +kernel
theorem dJ4_length_0 : decode cJ4_length 0 = .ok (.aload_n 0, 1) := dk_42 (dk_at dksJ4_length_0 0 rfl rfl)
theorem dJ4_length_1 : decode cJ4_length 1 = .ok (.getfield 9, 3) := dk_180 0 9 (dk_at dksJ4_length_0 1 rfl rfl)
theorem dJ4_length_4 : decode cJ4_length 4 = .ok (.arraylength, 1) := dk_190 (dk_at dksJ4_length_0 4 rfl rfl)
theorem dJ4_length_5 : decode cJ4_length 5 = .ok (.aload_n 0, 1) := dk_42 (dk_at dksJ4_length_0 5 rfl rfl)
theorem dJ4_length_6 : decode cJ4_length 6 = .ok (.invokevirtual 335, 3) := dk_182 1 79 (dk_at dksJ4_length_0 6 rfl rfl)
theorem dJ4_length_9 : decode cJ4_length 9 = .ok (.ishr, 1) := dk_122 (dk_at dksJ4_length_0 9 rfl rfl)
theorem dJ4_length_10 : decode cJ4_length 10 = .ok (.ireturn, 1) := dk_172 (dk_at dksJ4_length_0 10 rfl rfl)
abbrev cJ4_coder : ByteArray := prog_35_method_152_code
def yJ4_coder : MethodName := ⟨RJ4, "coder", "()B"⟩
def dkwJ4_coder_0 : List UInt8 := [178, 0, 38, 153, 0, 10, 42, 180, 0, 15, 167, 0, 4, 4, 172]
abbrev dktJ4_coder_0 : List UInt8 := dkwJ4_coder_0 ++ []
theorem dksJ4_coder_0 : cJ4_coder.data.toList.drop 0 = dktJ4_coder_0 := by decide +kernel
theorem dJ4_coder_0 : decode cJ4_coder 0 = .ok (.getstatic 38, 3) := dk_178 0 38 (dk_at dksJ4_coder_0 0 rfl rfl)
theorem dJ4_coder_3 : decode cJ4_coder 3 = .ok (.ifCond .eq 10, 3) := dk_153 0 10 (dk_at dksJ4_coder_0 3 rfl rfl)
theorem dJ4_coder_6 : decode cJ4_coder 6 = .ok (.aload_n 0, 1) := dk_42 (dk_at dksJ4_coder_0 6 rfl rfl)
theorem dJ4_coder_7 : decode cJ4_coder 7 = .ok (.getfield 15, 3) := dk_180 0 15 (dk_at dksJ4_coder_0 7 rfl rfl)
theorem dJ4_coder_10 : decode cJ4_coder 10 = .ok (.goto 4, 3) := dk_167 0 4 (dk_at dksJ4_coder_0 10 rfl rfl)
theorem dJ4_coder_13 : decode cJ4_coder 13 = .ok (.iconst 1, 1) := dk_4 (dk_at dksJ4_coder_0 13 rfl rfl)
theorem dJ4_coder_14 : decode cJ4_coder 14 = .ok (.ireturn, 1) := dk_172 (dk_at dksJ4_coder_0 14 rfl rfl)
abbrev cJ4_checkBoundsOffCount : ByteArray := prog_35_method_157_code
def yJ4_checkBoundsOffCount : MethodName := ⟨RJ4, "checkBoundsOffCount", "(III)I"⟩
def dkwJ4_checkBoundsOffCount_0 : List UInt8 := [26, 27, 28, 178, 4, 29, 184, 4, 41, 172]
abbrev dktJ4_checkBoundsOffCount_0 : List UInt8 := dkwJ4_checkBoundsOffCount_0 ++ []
theorem dksJ4_checkBoundsOffCount_0 : cJ4_checkBoundsOffCount.data.toList.drop 0 = dktJ4_checkBoundsOffCount_0 := by decide +kernel
theorem dJ4_checkBoundsOffCount_0 : decode cJ4_checkBoundsOffCount 0 = .ok (.iload_n 0, 1) := dk_26 (dk_at dksJ4_checkBoundsOffCount_0 0 rfl rfl)
theorem dJ4_checkBoundsOffCount_1 : decode cJ4_checkBoundsOffCount 1 = .ok (.iload_n 1, 1) := dk_27 (dk_at dksJ4_checkBoundsOffCount_0 1 rfl rfl)
theorem dJ4_checkBoundsOffCount_2 : decode cJ4_checkBoundsOffCount 2 = .ok (.iload_n 2, 1) := dk_28 (dk_at dksJ4_checkBoundsOffCount_0 2 rfl rfl)
theorem dJ4_checkBoundsOffCount_3 : decode cJ4_checkBoundsOffCount 3 = .ok (.getstatic 1053, 3) := dk_178 4 29 (dk_at dksJ4_checkBoundsOffCount_0 3 rfl rfl)
theorem dJ4_checkBoundsOffCount_6 : decode cJ4_checkBoundsOffCount 6 = .ok (.invokestatic 1065, 3) := dk_184 4 41 (dk_at dksJ4_checkBoundsOffCount_0 6 rfl rfl)
theorem dJ4_checkBoundsOffCount_9 : decode cJ4_checkBoundsOffCount 9 = .ok (.ireturn, 1) := dk_172 (dk_at dksJ4_checkBoundsOffCount_0 9 rfl rfl)
abbrev cJ4_getBytes : ByteArray := prog_35_method_147_code
def yJ4_getBytes : MethodName := ⟨RJ4, "getBytes", "([BIB)V"⟩
def dkwJ4_getBytes_1 : List UInt8 := [184, 0, 212, 167, 0, 18, 42, 180, 0, 9, 3, 43, 28, 42, 180, 0, 9, 190, 184, 0, 106, 177]
abbrev dktJ4_getBytes_1 : List UInt8 := dkwJ4_getBytes_1 ++ []
def dkwJ4_getBytes_0 : List UInt8 := [42, 182, 1, 79, 29, 160, 0, 23, 42, 180, 0, 9, 3, 43, 28, 29, 120, 42, 180, 0, 9, 190]
abbrev dktJ4_getBytes_0 : List UInt8 := dkwJ4_getBytes_0 ++ dktJ4_getBytes_1
theorem dksJ4_getBytes_0 : cJ4_getBytes.data.toList.drop 0 = dktJ4_getBytes_0 := by decide +kernel
theorem dksJ4_getBytes_1 : cJ4_getBytes.data.toList.drop 22 = dktJ4_getBytes_1 := dk_seg dksJ4_getBytes_0 22 rfl rfl
theorem dJ4_getBytes_0 : decode cJ4_getBytes 0 = .ok (.aload_n 0, 1) := dk_42 (dk_at dksJ4_getBytes_0 0 rfl rfl)
theorem dJ4_getBytes_1 : decode cJ4_getBytes 1 = .ok (.invokevirtual 335, 3) := dk_182 1 79 (dk_at dksJ4_getBytes_0 1 rfl rfl)
theorem dJ4_getBytes_4 : decode cJ4_getBytes 4 = .ok (.iload_n 3, 1) := dk_29 (dk_at dksJ4_getBytes_0 4 rfl rfl)
theorem dJ4_getBytes_5 : decode cJ4_getBytes 5 = .ok (.if_icmp .ne 23, 3) := dk_160 0 23 (dk_at dksJ4_getBytes_0 5 rfl rfl)
theorem dJ4_getBytes_8 : decode cJ4_getBytes 8 = .ok (.aload_n 0, 1) := dk_42 (dk_at dksJ4_getBytes_0 8 rfl rfl)
theorem dJ4_getBytes_9 : decode cJ4_getBytes 9 = .ok (.getfield 9, 3) := dk_180 0 9 (dk_at dksJ4_getBytes_0 9 rfl rfl)
theorem dJ4_getBytes_12 : decode cJ4_getBytes 12 = .ok (.iconst 0, 1) := dk_3 (dk_at dksJ4_getBytes_0 12 rfl rfl)
theorem dJ4_getBytes_13 : decode cJ4_getBytes 13 = .ok (.aload_n 1, 1) := dk_43 (dk_at dksJ4_getBytes_0 13 rfl rfl)
theorem dJ4_getBytes_14 : decode cJ4_getBytes 14 = .ok (.iload_n 2, 1) := dk_28 (dk_at dksJ4_getBytes_0 14 rfl rfl)
theorem dJ4_getBytes_15 : decode cJ4_getBytes 15 = .ok (.iload_n 3, 1) := dk_29 (dk_at dksJ4_getBytes_0 15 rfl rfl)
theorem dJ4_getBytes_16 : decode cJ4_getBytes 16 = .ok (.ishl, 1) := dk_120 (dk_at dksJ4_getBytes_0 16 rfl rfl)
theorem dJ4_getBytes_17 : decode cJ4_getBytes 17 = .ok (.aload_n 0, 1) := dk_42 (dk_at dksJ4_getBytes_0 17 rfl rfl)
theorem dJ4_getBytes_18 : decode cJ4_getBytes 18 = .ok (.getfield 9, 3) := dk_180 0 9 (dk_at dksJ4_getBytes_0 18 rfl rfl)
theorem dJ4_getBytes_21 : decode cJ4_getBytes 21 = .ok (.arraylength, 1) := dk_190 (dk_at dksJ4_getBytes_0 21 rfl rfl)
theorem dJ4_getBytes_22 : decode cJ4_getBytes 22 = .ok (.invokestatic 212, 3) := dk_184 0 212 (dk_at dksJ4_getBytes_1 0 rfl rfl)
theorem dJ4_getBytes_25 : decode cJ4_getBytes 25 = .ok (.goto 18, 3) := dk_167 0 18 (dk_at dksJ4_getBytes_1 3 rfl rfl)
theorem dJ4_getBytes_28 : decode cJ4_getBytes 28 = .ok (.aload_n 0, 1) := dk_42 (dk_at dksJ4_getBytes_1 6 rfl rfl)
theorem dJ4_getBytes_29 : decode cJ4_getBytes 29 = .ok (.getfield 9, 3) := dk_180 0 9 (dk_at dksJ4_getBytes_1 7 rfl rfl)
theorem dJ4_getBytes_32 : decode cJ4_getBytes 32 = .ok (.iconst 0, 1) := dk_3 (dk_at dksJ4_getBytes_1 10 rfl rfl)
theorem dJ4_getBytes_33 : decode cJ4_getBytes 33 = .ok (.aload_n 1, 1) := dk_43 (dk_at dksJ4_getBytes_1 11 rfl rfl)
theorem dJ4_getBytes_34 : decode cJ4_getBytes 34 = .ok (.iload_n 2, 1) := dk_28 (dk_at dksJ4_getBytes_1 12 rfl rfl)
theorem dJ4_getBytes_35 : decode cJ4_getBytes 35 = .ok (.aload_n 0, 1) := dk_42 (dk_at dksJ4_getBytes_1 13 rfl rfl)
theorem dJ4_getBytes_36 : decode cJ4_getBytes 36 = .ok (.getfield 9, 3) := dk_180 0 9 (dk_at dksJ4_getBytes_1 14 rfl rfl)
theorem dJ4_getBytes_39 : decode cJ4_getBytes 39 = .ok (.arraylength, 1) := dk_190 (dk_at dksJ4_getBytes_1 17 rfl rfl)
theorem dJ4_getBytes_40 : decode cJ4_getBytes 40 = .ok (.invokestatic 106, 3) := dk_184 0 106 (dk_at dksJ4_getBytes_1 18 rfl rfl)
theorem dJ4_getBytes_43 : decode cJ4_getBytes 43 = .ok (.return_, 1) := dk_177 (dk_at dksJ4_getBytes_1 21 rfl rfl)
abbrev cJ4_init : ByteArray := prog_35_method_53_code
def yJ4_init : MethodName := ⟨RJ4, "<init>", "(Ljava/lang/StringBuilder;)V"⟩
def dkwJ4_init_0 : List UInt8 := [42, 43, 1, 183, 1, 233, 177]
abbrev dktJ4_init_0 : List UInt8 := dkwJ4_init_0 ++ []
theorem dksJ4_init_0 : cJ4_init.data.toList.drop 0 = dktJ4_init_0 := by decide +kernel
theorem dJ4_init_0 : decode cJ4_init 0 = .ok (.aload_n 0, 1) := dk_42 (dk_at dksJ4_init_0 0 rfl rfl)
theorem dJ4_init_1 : decode cJ4_init 1 = .ok (.aload_n 1, 1) := dk_43 (dk_at dksJ4_init_0 1 rfl rfl)
theorem dJ4_init_2 : decode cJ4_init 2 = .ok (.aconst_null, 1) := dk_1 (dk_at dksJ4_init_0 2 rfl rfl)
theorem dJ4_init_3 : decode cJ4_init 3 = .ok (.invokespecial 489, 3) := dk_183 1 233 (dk_at dksJ4_init_0 3 rfl rfl)
theorem dJ4_init_6 : decode cJ4_init 6 = .ok (.return_, 1) := dk_177 (dk_at dksJ4_init_0 6 rfl rfl)
abbrev cJ4_init_2 : ByteArray := prog_35_method_150_code
def yJ4_init_2 : MethodName := ⟨RJ4, "<init>", "(Ljava/lang/AbstractStringBuilder;Ljava/lang/Void;)V"⟩
def dkwJ4_init_2_4 : List UInt8 := [181, 0, 9, 177]
abbrev dktJ4_init_2_4 : List UInt8 := dkwJ4_init_2_4 ++ []
def dkwJ4_init_2_3 : List UInt8 := [184, 0, 47, 181, 0, 15, 177, 42, 4, 181, 0, 15, 42, 45, 3, 21, 4, 4, 120, 184, 0, 54]
abbrev dktJ4_init_2_3 : List UInt8 := dkwJ4_init_2_3 ++ dktJ4_init_2_4
def dkwJ4_init_2_2 : List UInt8 := [180, 4, 24, 153, 0, 28, 42, 45, 3, 21, 4, 184, 4, 27, 181, 0, 9, 42, 42, 180, 0, 9, 21, 4]
abbrev dktJ4_init_2_2 : List UInt8 := dkwJ4_init_2_2 ++ dktJ4_init_2_3
def dkwJ4_init_2_1 : List UInt8 := [181, 0, 15, 42, 45, 3, 21, 4, 184, 0, 54, 181, 0, 9, 167, 0, 59, 178, 0, 38, 153, 0, 35, 43]
abbrev dktJ4_init_2_1 : List UInt8 := dkwJ4_init_2_1 ++ dktJ4_init_2_2
def dkwJ4_init_2_0 : List UInt8 := [42, 183, 0, 1, 43, 182, 2, 40, 78, 43, 182, 2, 37, 54, 4, 43, 182, 4, 23, 153, 0, 22, 42, 3]
abbrev dktJ4_init_2_0 : List UInt8 := dkwJ4_init_2_0 ++ dktJ4_init_2_1
theorem dksJ4_init_2_0 : cJ4_init_2.data.toList.drop 0 = dktJ4_init_2_0 := by decide +kernel
theorem dksJ4_init_2_1 : cJ4_init_2.data.toList.drop 24 = dktJ4_init_2_1 := dk_seg dksJ4_init_2_0 24 rfl rfl
theorem dksJ4_init_2_2 : cJ4_init_2.data.toList.drop 48 = dktJ4_init_2_2 := dk_seg dksJ4_init_2_1 24 rfl rfl
theorem dksJ4_init_2_3 : cJ4_init_2.data.toList.drop 72 = dktJ4_init_2_3 := dk_seg dksJ4_init_2_2 24 rfl rfl
theorem dksJ4_init_2_4 : cJ4_init_2.data.toList.drop 94 = dktJ4_init_2_4 := dk_seg dksJ4_init_2_3 22 rfl rfl
theorem dJ4_init_2_0 : decode cJ4_init_2 0 = .ok (.aload_n 0, 1) := dk_42 (dk_at dksJ4_init_2_0 0 rfl rfl)
theorem dJ4_init_2_1 : decode cJ4_init_2 1 = .ok (.invokespecial 1, 3) := dk_183 0 1 (dk_at dksJ4_init_2_0 1 rfl rfl)
theorem dJ4_init_2_4 : decode cJ4_init_2 4 = .ok (.aload_n 1, 1) := dk_43 (dk_at dksJ4_init_2_0 4 rfl rfl)
theorem dJ4_init_2_5 : decode cJ4_init_2 5 = .ok (.invokevirtual 552, 3) := dk_182 2 40 (dk_at dksJ4_init_2_0 5 rfl rfl)
theorem dJ4_init_2_8 : decode cJ4_init_2 8 = .ok (.astore_n 3, 1) := dk_78 (dk_at dksJ4_init_2_0 8 rfl rfl)
theorem dJ4_init_2_9 : decode cJ4_init_2 9 = .ok (.aload_n 1, 1) := dk_43 (dk_at dksJ4_init_2_0 9 rfl rfl)
theorem dJ4_init_2_10 : decode cJ4_init_2 10 = .ok (.invokevirtual 549, 3) := dk_182 2 37 (dk_at dksJ4_init_2_0 10 rfl rfl)
theorem dJ4_init_2_13 : decode cJ4_init_2 13 = .ok (.istore 4, 2) := dk_54 4 (dk_at dksJ4_init_2_0 13 rfl rfl)
theorem dJ4_init_2_15 : decode cJ4_init_2 15 = .ok (.aload_n 1, 1) := dk_43 (dk_at dksJ4_init_2_0 15 rfl rfl)
theorem dJ4_init_2_16 : decode cJ4_init_2 16 = .ok (.invokevirtual 1047, 3) := dk_182 4 23 (dk_at dksJ4_init_2_0 16 rfl rfl)
theorem dJ4_init_2_19 : decode cJ4_init_2 19 = .ok (.ifCond .eq 22, 3) := dk_153 0 22 (dk_at dksJ4_init_2_0 19 rfl rfl)
theorem dJ4_init_2_22 : decode cJ4_init_2 22 = .ok (.aload_n 0, 1) := dk_42 (dk_at dksJ4_init_2_0 22 rfl rfl)
theorem dJ4_init_2_23 : decode cJ4_init_2 23 = .ok (.iconst 0, 1) := dk_3 (dk_at dksJ4_init_2_0 23 rfl rfl)
theorem dJ4_init_2_24 : decode cJ4_init_2 24 = .ok (.putfield 15, 3) := dk_181 0 15 (dk_at dksJ4_init_2_1 0 rfl rfl)
theorem dJ4_init_2_27 : decode cJ4_init_2 27 = .ok (.aload_n 0, 1) := dk_42 (dk_at dksJ4_init_2_1 3 rfl rfl)
theorem dJ4_init_2_28 : decode cJ4_init_2 28 = .ok (.aload_n 3, 1) := dk_45 (dk_at dksJ4_init_2_1 4 rfl rfl)
theorem dJ4_init_2_29 : decode cJ4_init_2 29 = .ok (.iconst 0, 1) := dk_3 (dk_at dksJ4_init_2_1 5 rfl rfl)
theorem dJ4_init_2_30 : decode cJ4_init_2 30 = .ok (.iload 4, 2) := dk_21 4 (dk_at dksJ4_init_2_1 6 rfl rfl)
theorem dJ4_init_2_32 : decode cJ4_init_2 32 = .ok (.invokestatic 54, 3) := dk_184 0 54 (dk_at dksJ4_init_2_1 8 rfl rfl)
theorem dJ4_init_2_35 : decode cJ4_init_2 35 = .ok (.putfield 9, 3) := dk_181 0 9 (dk_at dksJ4_init_2_1 11 rfl rfl)
theorem dJ4_init_2_38 : decode cJ4_init_2 38 = .ok (.goto 59, 3) := dk_167 0 59 (dk_at dksJ4_init_2_1 14 rfl rfl)
theorem dJ4_init_2_41 : decode cJ4_init_2 41 = .ok (.getstatic 38, 3) := dk_178 0 38 (dk_at dksJ4_init_2_1 17 rfl rfl)
theorem dJ4_init_2_44 : decode cJ4_init_2 44 = .ok (.ifCond .eq 35, 3) := dk_153 0 35 (dk_at dksJ4_init_2_1 20 rfl rfl)
theorem dJ4_init_2_47 : decode cJ4_init_2 47 = .ok (.aload_n 1, 1) := dk_43 (dk_at dksJ4_init_2_1 23 rfl rfl)
theorem dJ4_init_2_48 : decode cJ4_init_2 48 = .ok (.getfield 1048, 3) := dk_180 4 24 (dk_at dksJ4_init_2_2 0 rfl rfl)
theorem dJ4_init_2_51 : decode cJ4_init_2 51 = .ok (.ifCond .eq 28, 3) := dk_153 0 28 (dk_at dksJ4_init_2_2 3 rfl rfl)
theorem dJ4_init_2_54 : decode cJ4_init_2 54 = .ok (.aload_n 0, 1) := dk_42 (dk_at dksJ4_init_2_2 6 rfl rfl)
theorem dJ4_init_2_55 : decode cJ4_init_2 55 = .ok (.aload_n 3, 1) := dk_45 (dk_at dksJ4_init_2_2 7 rfl rfl)
theorem dJ4_init_2_56 : decode cJ4_init_2 56 = .ok (.iconst 0, 1) := dk_3 (dk_at dksJ4_init_2_2 8 rfl rfl)
theorem dJ4_init_2_57 : decode cJ4_init_2 57 = .ok (.iload 4, 2) := dk_21 4 (dk_at dksJ4_init_2_2 9 rfl rfl)
theorem dJ4_init_2_59 : decode cJ4_init_2 59 = .ok (.invokestatic 1051, 3) := dk_184 4 27 (dk_at dksJ4_init_2_2 11 rfl rfl)
theorem dJ4_init_2_62 : decode cJ4_init_2 62 = .ok (.putfield 9, 3) := dk_181 0 9 (dk_at dksJ4_init_2_2 14 rfl rfl)
theorem dJ4_init_2_65 : decode cJ4_init_2 65 = .ok (.aload_n 0, 1) := dk_42 (dk_at dksJ4_init_2_2 17 rfl rfl)
theorem dJ4_init_2_66 : decode cJ4_init_2 66 = .ok (.aload_n 0, 1) := dk_42 (dk_at dksJ4_init_2_2 18 rfl rfl)
theorem dJ4_init_2_67 : decode cJ4_init_2 67 = .ok (.getfield 9, 3) := dk_180 0 9 (dk_at dksJ4_init_2_2 19 rfl rfl)
theorem dJ4_init_2_70 : decode cJ4_init_2 70 = .ok (.iload 4, 2) := dk_21 4 (dk_at dksJ4_init_2_2 22 rfl rfl)
theorem dJ4_init_2_72 : decode cJ4_init_2 72 = .ok (.invokestatic 47, 3) := dk_184 0 47 (dk_at dksJ4_init_2_3 0 rfl rfl)
theorem dJ4_init_2_75 : decode cJ4_init_2 75 = .ok (.putfield 15, 3) := dk_181 0 15 (dk_at dksJ4_init_2_3 3 rfl rfl)
theorem dJ4_init_2_78 : decode cJ4_init_2 78 = .ok (.return_, 1) := dk_177 (dk_at dksJ4_init_2_3 6 rfl rfl)
theorem dJ4_init_2_79 : decode cJ4_init_2 79 = .ok (.aload_n 0, 1) := dk_42 (dk_at dksJ4_init_2_3 7 rfl rfl)
theorem dJ4_init_2_80 : decode cJ4_init_2 80 = .ok (.iconst 1, 1) := dk_4 (dk_at dksJ4_init_2_3 8 rfl rfl)
theorem dJ4_init_2_81 : decode cJ4_init_2 81 = .ok (.putfield 15, 3) := dk_181 0 15 (dk_at dksJ4_init_2_3 9 rfl rfl)
theorem dJ4_init_2_84 : decode cJ4_init_2 84 = .ok (.aload_n 0, 1) := dk_42 (dk_at dksJ4_init_2_3 12 rfl rfl)
theorem dJ4_init_2_85 : decode cJ4_init_2 85 = .ok (.aload_n 3, 1) := dk_45 (dk_at dksJ4_init_2_3 13 rfl rfl)
theorem dJ4_init_2_86 : decode cJ4_init_2 86 = .ok (.iconst 0, 1) := dk_3 (dk_at dksJ4_init_2_3 14 rfl rfl)
theorem dJ4_init_2_87 : decode cJ4_init_2 87 = .ok (.iload 4, 2) := dk_21 4 (dk_at dksJ4_init_2_3 15 rfl rfl)
theorem dJ4_init_2_89 : decode cJ4_init_2 89 = .ok (.iconst 1, 1) := dk_4 (dk_at dksJ4_init_2_3 17 rfl rfl)
theorem dJ4_init_2_90 : decode cJ4_init_2 90 = .ok (.ishl, 1) := dk_120 (dk_at dksJ4_init_2_3 18 rfl rfl)
theorem dJ4_init_2_91 : decode cJ4_init_2 91 = .ok (.invokestatic 54, 3) := dk_184 0 54 (dk_at dksJ4_init_2_3 19 rfl rfl)
theorem dJ4_init_2_94 : decode cJ4_init_2 94 = .ok (.putfield 9, 3) := dk_181 0 9 (dk_at dksJ4_init_2_4 0 rfl rfl)
theorem dJ4_init_2_97 : decode cJ4_init_2 97 = .ok (.return_, 1) := dk_177 (dk_at dksJ4_init_2_4 3 rfl rfl)
abbrev cJ4_checkIndex : ByteArray := prog_35_method_155_code
def yJ4_checkIndex : MethodName := ⟨RJ4, "checkIndex", "(II)V"⟩
def dkwJ4_checkIndex_0 : List UInt8 := [26, 27, 178, 4, 29, 184, 4, 35, 87, 177]
abbrev dktJ4_checkIndex_0 : List UInt8 := dkwJ4_checkIndex_0 ++ []
theorem dksJ4_checkIndex_0 : cJ4_checkIndex.data.toList.drop 0 = dktJ4_checkIndex_0 := by decide +kernel
theorem dJ4_checkIndex_0 : decode cJ4_checkIndex 0 = .ok (.iload_n 0, 1) := dk_26 (dk_at dksJ4_checkIndex_0 0 rfl rfl)
theorem dJ4_checkIndex_1 : decode cJ4_checkIndex 1 = .ok (.iload_n 1, 1) := dk_27 (dk_at dksJ4_checkIndex_0 1 rfl rfl)
theorem dJ4_checkIndex_2 : decode cJ4_checkIndex 2 = .ok (.getstatic 1053, 3) := dk_178 4 29 (dk_at dksJ4_checkIndex_0 2 rfl rfl)
theorem dJ4_checkIndex_5 : decode cJ4_checkIndex 5 = .ok (.invokestatic 1059, 3) := dk_184 4 35 (dk_at dksJ4_checkIndex_0 5 rfl rfl)
theorem dJ4_checkIndex_8 : decode cJ4_checkIndex 8 = .ok (.pop, 1) := dk_87 (dk_at dksJ4_checkIndex_0 8 rfl rfl)
theorem dJ4_checkIndex_9 : decode cJ4_checkIndex 9 = .ok (.return_, 1) := dk_177 (dk_at dksJ4_checkIndex_0 9 rfl rfl)
abbrev cJ4_charAt : ByteArray := prog_35_method_56_code
def yJ4_charAt : MethodName := ⟨RJ4, "charAt", "(I)C"⟩
def dkwJ4_charAt_1 : List UInt8 := [172]
abbrev dktJ4_charAt_1 : List UInt8 := dkwJ4_charAt_1 ++ []
def dkwJ4_charAt_0 : List UInt8 := [42, 182, 1, 236, 153, 0, 12, 42, 180, 0, 9, 27, 184, 1, 239, 172, 42, 180, 0, 9, 27, 184, 1, 242]
abbrev dktJ4_charAt_0 : List UInt8 := dkwJ4_charAt_0 ++ dktJ4_charAt_1
theorem dksJ4_charAt_0 : cJ4_charAt.data.toList.drop 0 = dktJ4_charAt_0 := by decide +kernel
theorem dksJ4_charAt_1 : cJ4_charAt.data.toList.drop 24 = dktJ4_charAt_1 := dk_seg dksJ4_charAt_0 24 rfl rfl
theorem dJ4_charAt_0 : decode cJ4_charAt 0 = .ok (.aload_n 0, 1) := dk_42 (dk_at dksJ4_charAt_0 0 rfl rfl)
theorem dJ4_charAt_1 : decode cJ4_charAt 1 = .ok (.invokevirtual 492, 3) := dk_182 1 236 (dk_at dksJ4_charAt_0 1 rfl rfl)
theorem dJ4_charAt_4 : decode cJ4_charAt 4 = .ok (.ifCond .eq 12, 3) := dk_153 0 12 (dk_at dksJ4_charAt_0 4 rfl rfl)
theorem dJ4_charAt_7 : decode cJ4_charAt 7 = .ok (.aload_n 0, 1) := dk_42 (dk_at dksJ4_charAt_0 7 rfl rfl)
theorem dJ4_charAt_8 : decode cJ4_charAt 8 = .ok (.getfield 9, 3) := dk_180 0 9 (dk_at dksJ4_charAt_0 8 rfl rfl)
theorem dJ4_charAt_11 : decode cJ4_charAt 11 = .ok (.iload_n 1, 1) := dk_27 (dk_at dksJ4_charAt_0 11 rfl rfl)
theorem dJ4_charAt_12 : decode cJ4_charAt 12 = .ok (.invokestatic 495, 3) := dk_184 1 239 (dk_at dksJ4_charAt_0 12 rfl rfl)
theorem dJ4_charAt_15 : decode cJ4_charAt 15 = .ok (.ireturn, 1) := dk_172 (dk_at dksJ4_charAt_0 15 rfl rfl)
theorem dJ4_charAt_16 : decode cJ4_charAt 16 = .ok (.aload_n 0, 1) := dk_42 (dk_at dksJ4_charAt_0 16 rfl rfl)
theorem dJ4_charAt_17 : decode cJ4_charAt 17 = .ok (.getfield 9, 3) := dk_180 0 9 (dk_at dksJ4_charAt_0 17 rfl rfl)
theorem dJ4_charAt_20 : decode cJ4_charAt 20 = .ok (.iload_n 1, 1) := dk_27 (dk_at dksJ4_charAt_0 20 rfl rfl)
theorem dJ4_charAt_21 : decode cJ4_charAt 21 = .ok (.invokestatic 498, 3) := dk_184 1 242 (dk_at dksJ4_charAt_0 21 rfl rfl)
theorem dJ4_charAt_24 : decode cJ4_charAt 24 = .ok (.ireturn, 1) := dk_172 (dk_at dksJ4_charAt_1 0 rfl rfl)
abbrev cJ4_isLatin1 : ByteArray := prog_35_method_154_code
def yJ4_isLatin1 : MethodName := ⟨RJ4, "isLatin1", "()Z"⟩
def dkwJ4_isLatin1_0 : List UInt8 := [178, 0, 38, 153, 0, 14, 42, 180, 0, 15, 154, 0, 7, 4, 167, 0, 4, 3, 172]
abbrev dktJ4_isLatin1_0 : List UInt8 := dkwJ4_isLatin1_0 ++ []
theorem dksJ4_isLatin1_0 : cJ4_isLatin1.data.toList.drop 0 = dktJ4_isLatin1_0 := by decide +kernel
theorem dJ4_isLatin1_0 : decode cJ4_isLatin1 0 = .ok (.getstatic 38, 3) := dk_178 0 38 (dk_at dksJ4_isLatin1_0 0 rfl rfl)
theorem dJ4_isLatin1_3 : decode cJ4_isLatin1 3 = .ok (.ifCond .eq 14, 3) := dk_153 0 14 (dk_at dksJ4_isLatin1_0 3 rfl rfl)
theorem dJ4_isLatin1_6 : decode cJ4_isLatin1 6 = .ok (.aload_n 0, 1) := dk_42 (dk_at dksJ4_isLatin1_0 6 rfl rfl)
theorem dJ4_isLatin1_7 : decode cJ4_isLatin1 7 = .ok (.getfield 15, 3) := dk_180 0 15 (dk_at dksJ4_isLatin1_0 7 rfl rfl)
theorem dJ4_isLatin1_10 : decode cJ4_isLatin1 10 = .ok (.ifCond .ne 7, 3) := dk_154 0 7 (dk_at dksJ4_isLatin1_0 10 rfl rfl)
theorem dJ4_isLatin1_13 : decode cJ4_isLatin1 13 = .ok (.iconst 1, 1) := dk_4 (dk_at dksJ4_isLatin1_0 13 rfl rfl)
theorem dJ4_isLatin1_14 : decode cJ4_isLatin1 14 = .ok (.goto 4, 3) := dk_167 0 4 (dk_at dksJ4_isLatin1_0 14 rfl rfl)
theorem dJ4_isLatin1_17 : decode cJ4_isLatin1 17 = .ok (.iconst 0, 1) := dk_3 (dk_at dksJ4_isLatin1_0 17 rfl rfl)
theorem dJ4_isLatin1_18 : decode cJ4_isLatin1 18 = .ok (.ireturn, 1) := dk_172 (dk_at dksJ4_isLatin1_0 18 rfl rfl)
abbrev cJ4_hashCode : ByteArray := prog_35_method_78_code
def yJ4_hashCode : MethodName := ⟨RJ4, "hashCode", "()I"⟩
def dkwJ4_hashCode_2 : List UInt8 := [181, 0, 23, 167, 0, 8, 42, 27, 181, 0, 19, 27, 172]
abbrev dktJ4_hashCode_2 : List UInt8 := dkwJ4_hashCode_2 ++ []
def dkwJ4_hashCode_1 : List UInt8 := [180, 0, 9, 184, 2, 116, 167, 0, 10, 42, 180, 0, 9, 184, 2, 120, 60, 27, 154, 0, 11, 42, 4]
abbrev dktJ4_hashCode_1 : List UInt8 := dkwJ4_hashCode_1 ++ dktJ4_hashCode_2
def dkwJ4_hashCode_0 : List UInt8 := [42, 180, 0, 19, 60, 27, 154, 0, 52, 42, 180, 0, 23, 154, 0, 45, 42, 182, 1, 236, 153, 0, 13, 42]
abbrev dktJ4_hashCode_0 : List UInt8 := dkwJ4_hashCode_0 ++ dktJ4_hashCode_1
theorem dksJ4_hashCode_0 : cJ4_hashCode.data.toList.drop 0 = dktJ4_hashCode_0 := by decide +kernel
theorem dksJ4_hashCode_1 : cJ4_hashCode.data.toList.drop 24 = dktJ4_hashCode_1 := dk_seg dksJ4_hashCode_0 24 rfl rfl
theorem dksJ4_hashCode_2 : cJ4_hashCode.data.toList.drop 47 = dktJ4_hashCode_2 := dk_seg dksJ4_hashCode_1 23 rfl rfl
theorem dJ4_hashCode_0 : decode cJ4_hashCode 0 = .ok (.aload_n 0, 1) := dk_42 (dk_at dksJ4_hashCode_0 0 rfl rfl)
theorem dJ4_hashCode_1 : decode cJ4_hashCode 1 = .ok (.getfield 19, 3) := dk_180 0 19 (dk_at dksJ4_hashCode_0 1 rfl rfl)
theorem dJ4_hashCode_4 : decode cJ4_hashCode 4 = .ok (.istore_n 1, 1) := dk_60 (dk_at dksJ4_hashCode_0 4 rfl rfl)
theorem dJ4_hashCode_5 : decode cJ4_hashCode 5 = .ok (.iload_n 1, 1) := dk_27 (dk_at dksJ4_hashCode_0 5 rfl rfl)
theorem dJ4_hashCode_6 : decode cJ4_hashCode 6 = .ok (.ifCond .ne 52, 3) := dk_154 0 52 (dk_at dksJ4_hashCode_0 6 rfl rfl)
theorem dJ4_hashCode_9 : decode cJ4_hashCode 9 = .ok (.aload_n 0, 1) := dk_42 (dk_at dksJ4_hashCode_0 9 rfl rfl)
theorem dJ4_hashCode_10 : decode cJ4_hashCode 10 = .ok (.getfield 23, 3) := dk_180 0 23 (dk_at dksJ4_hashCode_0 10 rfl rfl)
theorem dJ4_hashCode_13 : decode cJ4_hashCode 13 = .ok (.ifCond .ne 45, 3) := dk_154 0 45 (dk_at dksJ4_hashCode_0 13 rfl rfl)
theorem dJ4_hashCode_16 : decode cJ4_hashCode 16 = .ok (.aload_n 0, 1) := dk_42 (dk_at dksJ4_hashCode_0 16 rfl rfl)
theorem dJ4_hashCode_17 : decode cJ4_hashCode 17 = .ok (.invokevirtual 492, 3) := dk_182 1 236 (dk_at dksJ4_hashCode_0 17 rfl rfl)
theorem dJ4_hashCode_20 : decode cJ4_hashCode 20 = .ok (.ifCond .eq 13, 3) := dk_153 0 13 (dk_at dksJ4_hashCode_0 20 rfl rfl)
theorem dJ4_hashCode_23 : decode cJ4_hashCode 23 = .ok (.aload_n 0, 1) := dk_42 (dk_at dksJ4_hashCode_0 23 rfl rfl)
theorem dJ4_hashCode_24 : decode cJ4_hashCode 24 = .ok (.getfield 9, 3) := dk_180 0 9 (dk_at dksJ4_hashCode_1 0 rfl rfl)
theorem dJ4_hashCode_27 : decode cJ4_hashCode 27 = .ok (.invokestatic 628, 3) := dk_184 2 116 (dk_at dksJ4_hashCode_1 3 rfl rfl)
theorem dJ4_hashCode_30 : decode cJ4_hashCode 30 = .ok (.goto 10, 3) := dk_167 0 10 (dk_at dksJ4_hashCode_1 6 rfl rfl)
theorem dJ4_hashCode_33 : decode cJ4_hashCode 33 = .ok (.aload_n 0, 1) := dk_42 (dk_at dksJ4_hashCode_1 9 rfl rfl)
theorem dJ4_hashCode_34 : decode cJ4_hashCode 34 = .ok (.getfield 9, 3) := dk_180 0 9 (dk_at dksJ4_hashCode_1 10 rfl rfl)
theorem dJ4_hashCode_37 : decode cJ4_hashCode 37 = .ok (.invokestatic 632, 3) := dk_184 2 120 (dk_at dksJ4_hashCode_1 13 rfl rfl)
theorem dJ4_hashCode_40 : decode cJ4_hashCode 40 = .ok (.istore_n 1, 1) := dk_60 (dk_at dksJ4_hashCode_1 16 rfl rfl)
theorem dJ4_hashCode_41 : decode cJ4_hashCode 41 = .ok (.iload_n 1, 1) := dk_27 (dk_at dksJ4_hashCode_1 17 rfl rfl)
theorem dJ4_hashCode_42 : decode cJ4_hashCode 42 = .ok (.ifCond .ne 11, 3) := dk_154 0 11 (dk_at dksJ4_hashCode_1 18 rfl rfl)
theorem dJ4_hashCode_45 : decode cJ4_hashCode 45 = .ok (.aload_n 0, 1) := dk_42 (dk_at dksJ4_hashCode_1 21 rfl rfl)
theorem dJ4_hashCode_46 : decode cJ4_hashCode 46 = .ok (.iconst 1, 1) := dk_4 (dk_at dksJ4_hashCode_1 22 rfl rfl)
theorem dJ4_hashCode_47 : decode cJ4_hashCode 47 = .ok (.putfield 23, 3) := dk_181 0 23 (dk_at dksJ4_hashCode_2 0 rfl rfl)
theorem dJ4_hashCode_50 : decode cJ4_hashCode 50 = .ok (.goto 8, 3) := dk_167 0 8 (dk_at dksJ4_hashCode_2 3 rfl rfl)
theorem dJ4_hashCode_53 : decode cJ4_hashCode 53 = .ok (.aload_n 0, 1) := dk_42 (dk_at dksJ4_hashCode_2 6 rfl rfl)
theorem dJ4_hashCode_54 : decode cJ4_hashCode 54 = .ok (.iload_n 1, 1) := dk_27 (dk_at dksJ4_hashCode_2 7 rfl rfl)
theorem dJ4_hashCode_55 : decode cJ4_hashCode 55 = .ok (.putfield 19, 3) := dk_181 0 19 (dk_at dksJ4_hashCode_2 8 rfl rfl)
theorem dJ4_hashCode_58 : decode cJ4_hashCode 58 = .ok (.iload_n 1, 1) := dk_27 (dk_at dksJ4_hashCode_2 11 rfl rfl)
theorem dJ4_hashCode_59 : decode cJ4_hashCode 59 = .ok (.ireturn, 1) := dk_172 (dk_at dksJ4_hashCode_2 12 rfl rfl)
abbrev cJ4_equals : ByteArray := prog_35_method_66_code
def yJ4_equals : MethodName := ⟨RJ4, "equals", "(Ljava/lang/Object;)Z"⟩
def dkwJ4_equals_2 : List UInt8 := [184, 2, 29, 153, 0, 7, 4, 167, 0, 4, 3, 172]
abbrev dktJ4_equals_2 : List UInt8 := dkwJ4_equals_2 ++ []
def dkwJ4_equals_1 : List UInt8 := [153, 0, 14, 42, 180, 0, 15, 44, 180, 0, 15, 160, 0, 21, 42, 180, 0, 9, 44, 180, 0, 9]
abbrev dktJ4_equals_1 : List UInt8 := dkwJ4_equals_1 ++ dktJ4_equals_2
def dkwJ4_equals_0 : List UInt8 := [42, 43, 166, 0, 5, 4, 172, 43, 193, 0, 10, 153, 0, 43, 43, 192, 0, 10, 77, 178, 0, 38]
abbrev dktJ4_equals_0 : List UInt8 := dkwJ4_equals_0 ++ dktJ4_equals_1
theorem dksJ4_equals_0 : cJ4_equals.data.toList.drop 0 = dktJ4_equals_0 := by decide +kernel
theorem dksJ4_equals_1 : cJ4_equals.data.toList.drop 22 = dktJ4_equals_1 := dk_seg dksJ4_equals_0 22 rfl rfl
theorem dksJ4_equals_2 : cJ4_equals.data.toList.drop 44 = dktJ4_equals_2 := dk_seg dksJ4_equals_1 22 rfl rfl
theorem dJ4_equals_0 : decode cJ4_equals 0 = .ok (.aload_n 0, 1) := dk_42 (dk_at dksJ4_equals_0 0 rfl rfl)
theorem dJ4_equals_1 : decode cJ4_equals 1 = .ok (.aload_n 1, 1) := dk_43 (dk_at dksJ4_equals_0 1 rfl rfl)
theorem dJ4_equals_2 : decode cJ4_equals 2 = .ok (.if_acmp .ne 5, 3) := dk_166 0 5 (dk_at dksJ4_equals_0 2 rfl rfl)
theorem dJ4_equals_5 : decode cJ4_equals 5 = .ok (.iconst 1, 1) := dk_4 (dk_at dksJ4_equals_0 5 rfl rfl)
theorem dJ4_equals_6 : decode cJ4_equals 6 = .ok (.ireturn, 1) := dk_172 (dk_at dksJ4_equals_0 6 rfl rfl)
theorem dJ4_equals_7 : decode cJ4_equals 7 = .ok (.aload_n 1, 1) := dk_43 (dk_at dksJ4_equals_0 7 rfl rfl)
theorem dJ4_equals_8 : decode cJ4_equals 8 = .ok (.instanceof 10, 3) := dk_193 0 10 (dk_at dksJ4_equals_0 8 rfl rfl)
theorem dJ4_equals_11 : decode cJ4_equals 11 = .ok (.ifCond .eq 43, 3) := dk_153 0 43 (dk_at dksJ4_equals_0 11 rfl rfl)
theorem dJ4_equals_14 : decode cJ4_equals 14 = .ok (.aload_n 1, 1) := dk_43 (dk_at dksJ4_equals_0 14 rfl rfl)
theorem dJ4_equals_15 : decode cJ4_equals 15 = .ok (.checkcast 10, 3) := dk_192 0 10 (dk_at dksJ4_equals_0 15 rfl rfl)
theorem dJ4_equals_18 : decode cJ4_equals 18 = .ok (.astore_n 2, 1) := dk_77 (dk_at dksJ4_equals_0 18 rfl rfl)
theorem dJ4_equals_19 : decode cJ4_equals 19 = .ok (.getstatic 38, 3) := dk_178 0 38 (dk_at dksJ4_equals_0 19 rfl rfl)
theorem dJ4_equals_22 : decode cJ4_equals 22 = .ok (.ifCond .eq 14, 3) := dk_153 0 14 (dk_at dksJ4_equals_1 0 rfl rfl)
theorem dJ4_equals_25 : decode cJ4_equals 25 = .ok (.aload_n 0, 1) := dk_42 (dk_at dksJ4_equals_1 3 rfl rfl)
theorem dJ4_equals_26 : decode cJ4_equals 26 = .ok (.getfield 15, 3) := dk_180 0 15 (dk_at dksJ4_equals_1 4 rfl rfl)
theorem dJ4_equals_29 : decode cJ4_equals 29 = .ok (.aload_n 2, 1) := dk_44 (dk_at dksJ4_equals_1 7 rfl rfl)
theorem dJ4_equals_30 : decode cJ4_equals 30 = .ok (.getfield 15, 3) := dk_180 0 15 (dk_at dksJ4_equals_1 8 rfl rfl)
theorem dJ4_equals_33 : decode cJ4_equals 33 = .ok (.if_icmp .ne 21, 3) := dk_160 0 21 (dk_at dksJ4_equals_1 11 rfl rfl)
theorem dJ4_equals_36 : decode cJ4_equals 36 = .ok (.aload_n 0, 1) := dk_42 (dk_at dksJ4_equals_1 14 rfl rfl)
theorem dJ4_equals_37 : decode cJ4_equals 37 = .ok (.getfield 9, 3) := dk_180 0 9 (dk_at dksJ4_equals_1 15 rfl rfl)
theorem dJ4_equals_40 : decode cJ4_equals 40 = .ok (.aload_n 2, 1) := dk_44 (dk_at dksJ4_equals_1 18 rfl rfl)
theorem dJ4_equals_41 : decode cJ4_equals 41 = .ok (.getfield 9, 3) := dk_180 0 9 (dk_at dksJ4_equals_1 19 rfl rfl)
theorem dJ4_equals_44 : decode cJ4_equals 44 = .ok (.invokestatic 541, 3) := dk_184 2 29 (dk_at dksJ4_equals_2 0 rfl rfl)
theorem dJ4_equals_47 : decode cJ4_equals 47 = .ok (.ifCond .eq 7, 3) := dk_153 0 7 (dk_at dksJ4_equals_2 3 rfl rfl)
theorem dJ4_equals_50 : decode cJ4_equals 50 = .ok (.iconst 1, 1) := dk_4 (dk_at dksJ4_equals_2 6 rfl rfl)
theorem dJ4_equals_51 : decode cJ4_equals 51 = .ok (.goto 4, 3) := dk_167 0 4 (dk_at dksJ4_equals_2 7 rfl rfl)
theorem dJ4_equals_54 : decode cJ4_equals 54 = .ok (.iconst 0, 1) := dk_3 (dk_at dksJ4_equals_2 10 rfl rfl)
theorem dJ4_equals_55 : decode cJ4_equals 55 = .ok (.ireturn, 1) := dk_172 (dk_at dksJ4_equals_2 11 rfl rfl)
theorem q93 : (Jvm.Cond.initialized "java/lang/String") ∈ lw_all := lw_g (lw_at lw_m1 10 rfl) rfl
theorem q272 : (Jvm.Cond.laysStatic "java/lang/String" "COMPACT_STRINGS" "Z") ∈ lw_tbl := lw_at lw_m1 189 rfl
theorem q372 : (Jvm.Cond.fieldLink "java/lang/String" (1048 : Nat) "java/lang/AbstractStringBuilder" "maybeLatin1" "Z") ∈ lw_all := lw_g (lw_at lw_m2 49 rfl) rfl
theorem q516 : (Jvm.Cond.selects "java/lang/String" ({ cls := "java/lang/Object", name := "getClass", desc := "()Ljava/lang/Class;" } : Jvm.MethodName) ({ cls := "java/lang/Object", name := "getClass", desc := "()Ljava/lang/Class;" } : Jvm.MethodName)) ∈ lw_all := lw_g (lw_at lw_m2 193 rfl) rfl
theorem q902 : (Jvm.Cond.static ({ cls := "java/lang/String", name := "checkBoundsBeginEnd", desc := "(III)V" } : Jvm.MethodName)) ∈ lw_all := lw_g (lw_at lw_m4 99 rfl) rfl
theorem q903 : (Jvm.Cond.code ({ cls := "java/lang/String", name := "checkBoundsBeginEnd", desc := "(III)V" } : Jvm.MethodName) prog_35_method_158_code (3 : Nat) (Option.none : Option Jvm.ClassFile.FieldType)) ∈ lw_all := lw_g (lw_at lw_m4 100 rfl) rfl
theorem q904 : (Jvm.Cond.fieldLink "java/lang/String" (1053 : Nat) "jdk/internal/util/Preconditions" "SIOOBE_FORMATTER" "Ljava/util/function/BiFunction;") ∈ lw_all := lw_g (lw_at lw_m4 101 rfl) rfl
theorem q906 : (Jvm.Cond.methodLink "java/lang/String" (1062 : Nat) ({ cls := "jdk/internal/util/Preconditions", name := "checkFromToIndex", desc := "(IIILjava/util/function/BiFunction;)I" } : Jvm.MethodName)) ∈ lw_all := lw_g (lw_at lw_m4 103 rfl) rfl
theorem q1019 : (Jvm.Cond.instanceMethod ({ cls := "java/lang/String", name := "length", desc := "()I" } : Jvm.MethodName)) ∈ lw_all := lw_g (lw_at lw_m4 216 rfl) rfl
theorem q1020 : (Jvm.Cond.selects "java/lang/String" ({ cls := "java/lang/String", name := "length", desc := "()I" } : Jvm.MethodName) ({ cls := "java/lang/String", name := "length", desc := "()I" } : Jvm.MethodName)) ∈ lw_all := lw_g (lw_at lw_m4 217 rfl) rfl
theorem q1021 : (Jvm.Cond.code ({ cls := "java/lang/String", name := "length", desc := "()I" } : Jvm.MethodName) prog_35_method_54_code (1 : Nat) (Option.some Jvm.ClassFile.FieldType.int)) ∈ lw_all := lw_g (lw_at lw_m4 218 rfl) rfl
theorem q1022 : (Jvm.Cond.methodLink "java/lang/String" (335 : Nat) ({ cls := "java/lang/String", name := "coder", desc := "()B" } : Jvm.MethodName)) ∈ lw_all := lw_g (lw_at lw_m4 219 rfl) rfl
theorem q1023 : (Jvm.Cond.instanceMethod ({ cls := "java/lang/String", name := "coder", desc := "()B" } : Jvm.MethodName)) ∈ lw_all := lw_g (lw_at lw_m4 220 rfl) rfl
theorem q1024 : (Jvm.Cond.selects "java/lang/String" ({ cls := "java/lang/String", name := "coder", desc := "()B" } : Jvm.MethodName) ({ cls := "java/lang/String", name := "coder", desc := "()B" } : Jvm.MethodName)) ∈ lw_all := lw_g (lw_at lw_m4 221 rfl) rfl
theorem q1025 : (Jvm.Cond.code ({ cls := "java/lang/String", name := "coder", desc := "()B" } : Jvm.MethodName) prog_35_method_152_code (1 : Nat) (Option.some Jvm.ClassFile.FieldType.byte)) ∈ lw_all := lw_g (lw_at lw_m4 222 rfl) rfl
theorem q1026 : (Jvm.Cond.fieldLink "java/lang/String" (38 : Nat) "java/lang/String" "COMPACT_STRINGS" "Z") ∈ lw_all := lw_g (lw_at lw_m4 223 rfl) rfl
theorem q1050 : (Jvm.Cond.static ({ cls := "java/lang/String", name := "checkBoundsOffCount", desc := "(III)I" } : Jvm.MethodName)) ∈ lw_all := lw_g (lw_at lw_m5 7 rfl) rfl
theorem q1051 : (Jvm.Cond.code ({ cls := "java/lang/String", name := "checkBoundsOffCount", desc := "(III)I" } : Jvm.MethodName) prog_35_method_157_code (3 : Nat) (Option.some Jvm.ClassFile.FieldType.int)) ∈ lw_all := lw_g (lw_at lw_m5 8 rfl) rfl
theorem q1052 : (Jvm.Cond.methodLink "java/lang/String" (1065 : Nat) ({ cls := "jdk/internal/util/Preconditions", name := "checkFromIndexSize", desc := "(IIILjava/util/function/BiFunction;)I" } : Jvm.MethodName)) ∈ lw_all := lw_g (lw_at lw_m5 9 rfl) rfl
theorem q1060 : (Jvm.Cond.instanceMethod ({ cls := "java/lang/String", name := "getBytes", desc := "([BIB)V" } : Jvm.MethodName)) ∈ lw_all := lw_g (lw_at lw_m5 17 rfl) rfl
theorem q1061 : (Jvm.Cond.selects "java/lang/String" ({ cls := "java/lang/String", name := "getBytes", desc := "([BIB)V" } : Jvm.MethodName) ({ cls := "java/lang/String", name := "getBytes", desc := "([BIB)V" } : Jvm.MethodName)) ∈ lw_all := lw_g (lw_at lw_m5 18 rfl) rfl
theorem q1062 : (Jvm.Cond.code ({ cls := "java/lang/String", name := "getBytes", desc := "([BIB)V" } : Jvm.MethodName) prog_35_method_147_code (4 : Nat) (Option.none : Option Jvm.ClassFile.FieldType)) ∈ lw_all := lw_g (lw_at lw_m5 19 rfl) rfl
theorem q1063 : (Jvm.Cond.methodLink "java/lang/String" (212 : Nat) ({ cls := "java/lang/System", name := "arraycopy", desc := "(Ljava/lang/Object;ILjava/lang/Object;II)V" } : Jvm.MethodName)) ∈ lw_all := lw_g (lw_at lw_m5 20 rfl) rfl
theorem q1064 : (Jvm.Cond.methodLink "java/lang/String" (106 : Nat) ({ cls := "java/lang/StringLatin1", name := "inflate", desc := "([BI[BII)V" } : Jvm.MethodName)) ∈ lw_all := lw_g (lw_at lw_m5 21 rfl) rfl
theorem q1095 : (Jvm.Cond.instantiable "java/lang/String" (4 : Nat)) ∈ lw_all := lw_g (lw_at lw_m5 52 rfl) rfl
theorem q1097 : (Jvm.Cond.instanceMethod ({ cls := "java/lang/String", name := "<init>", desc := "(Ljava/lang/StringBuilder;)V" } : Jvm.MethodName)) ∈ lw_all := lw_g (lw_at lw_m5 54 rfl) rfl
theorem q1098 : (Jvm.Cond.code ({ cls := "java/lang/String", name := "<init>", desc := "(Ljava/lang/StringBuilder;)V" } : Jvm.MethodName) prog_35_method_53_code (2 : Nat) (Option.none : Option Jvm.ClassFile.FieldType)) ∈ lw_all := lw_g (lw_at lw_m5 55 rfl) rfl
theorem q1099 : (Jvm.Cond.methodLink "java/lang/String" (489 : Nat) ({ cls := "java/lang/String", name := "<init>", desc := "(Ljava/lang/AbstractStringBuilder;Ljava/lang/Void;)V" } : Jvm.MethodName)) ∈ lw_all := lw_g (lw_at lw_m5 56 rfl) rfl
theorem q1100 : (Jvm.Cond.instanceMethod ({ cls := "java/lang/String", name := "<init>", desc := "(Ljava/lang/AbstractStringBuilder;Ljava/lang/Void;)V" } : Jvm.MethodName)) ∈ lw_all := lw_g (lw_at lw_m5 57 rfl) rfl
theorem q1101 : (Jvm.Cond.code ({ cls := "java/lang/String", name := "<init>", desc := "(Ljava/lang/AbstractStringBuilder;Ljava/lang/Void;)V" } : Jvm.MethodName) prog_35_method_150_code (5 : Nat) (Option.none : Option Jvm.ClassFile.FieldType)) ∈ lw_all := lw_g (lw_at lw_m5 58 rfl) rfl
theorem q1102 : (Jvm.Cond.methodLink "java/lang/String" (1 : Nat) ({ cls := "java/lang/Object", name := "<init>", desc := "()V" } : Jvm.MethodName)) ∈ lw_all := lw_g (lw_at lw_m5 59 rfl) rfl
theorem q1103 : (Jvm.Cond.methodLink "java/lang/String" (552 : Nat) ({ cls := "java/lang/AbstractStringBuilder", name := "getValue", desc := "()[B" } : Jvm.MethodName)) ∈ lw_all := lw_g (lw_at lw_m5 60 rfl) rfl
theorem q1108 : (Jvm.Cond.methodLink "java/lang/String" (549 : Nat) ({ cls := "java/lang/AbstractStringBuilder", name := "length", desc := "()I" } : Jvm.MethodName)) ∈ lw_all := lw_g (lw_at lw_m5 65 rfl) rfl
theorem q1116 : (Jvm.Cond.methodLink "java/lang/String" (1047 : Nat) ({ cls := "java/lang/AbstractStringBuilder", name := "isLatin1", desc := "()Z" } : Jvm.MethodName)) ∈ lw_all := lw_g (lw_at lw_m5 73 rfl) rfl
theorem q1117 : (Jvm.Cond.methodLink "java/lang/String" (54 : Nat) ({ cls := "java/util/Arrays", name := "copyOfRange", desc := "([BII)[B" } : Jvm.MethodName)) ∈ lw_all := lw_g (lw_at lw_m5 74 rfl) rfl
theorem q1147 : (Jvm.Cond.methodLink "java/lang/String" (1051 : Nat) ({ cls := "java/lang/StringUTF16", name := "compress", desc := "([BII)[B" } : Jvm.MethodName)) ∈ lw_all := lw_g (lw_at lw_m5 104 rfl) rfl
theorem q1157 : (Jvm.Cond.methodLink "java/lang/String" (47 : Nat) ({ cls := "java/lang/StringUTF16", name := "coderFromArrayLen", desc := "([BI)B" } : Jvm.MethodName)) ∈ lw_all := lw_g (lw_at lw_m5 114 rfl) rfl
theorem q1160 : (Jvm.Cond.fieldLink "java/lang/String" (9 : Nat) "java/lang/String" "value" "[B") ∈ lw_all := lw_g (lw_at lw_m5 117 rfl) rfl
theorem q1161 : (Jvm.Cond.fieldLink "java/lang/String" (15 : Nat) "java/lang/String" "coder" "B") ∈ lw_all := lw_g (lw_at lw_m5 118 rfl) rfl
theorem q1162 : (Jvm.Cond.fieldLink "java/lang/String" (19 : Nat) "java/lang/String" "hash" "I") ∈ lw_all := lw_g (lw_at lw_m5 119 rfl) rfl
theorem q1163 : (Jvm.Cond.fieldLink "java/lang/String" (23 : Nat) "java/lang/String" "hashIsZero" "Z") ∈ lw_all := lw_g (lw_at lw_m5 120 rfl) rfl
theorem q1164 : (Jvm.Cond.laysFinal "java/lang/String" "java/lang/String" "value" "[B") ∈ lw_all := lw_g (lw_at lw_m5 121 rfl) rfl
theorem q1165 : (Jvm.Cond.soleField "java/lang/String" "value") ∈ lw_all := lw_g (lw_at lw_m5 122 rfl) rfl
theorem q1166 : (Jvm.Cond.laysFinal "java/lang/String" "java/lang/String" "coder" "B") ∈ lw_all := lw_g (lw_at lw_m5 123 rfl) rfl
theorem q1167 : (Jvm.Cond.soleField "java/lang/String" "coder") ∈ lw_all := lw_g (lw_at lw_m5 124 rfl) rfl
theorem q1168 : (Jvm.Cond.lays "java/lang/String" "java/lang/String" "hash" "I") ∈ lw_all := lw_g (lw_at lw_m5 125 rfl) rfl
theorem q1169 : (Jvm.Cond.soleField "java/lang/String" "hash") ∈ lw_all := lw_g (lw_at lw_m5 126 rfl) rfl
theorem q1170 : (Jvm.Cond.lays "java/lang/String" "java/lang/String" "hashIsZero" "Z") ∈ lw_all := lw_g (lw_at lw_m5 127 rfl) rfl
theorem q1171 : (Jvm.Cond.soleField "java/lang/String" "hashIsZero") ∈ lw_all := lw_g (lw_at lw_m5 128 rfl) rfl
theorem q1172 : (Jvm.Cond.superclass "java/lang/String" "java/lang/Object") ∈ lw_all := lw_g (lw_at lw_m5 129 rfl) rfl
theorem q1659 : (Jvm.Cond.static ({ cls := "java/lang/String", name := "checkIndex", desc := "(II)V" } : Jvm.MethodName)) ∈ lw_all := lw_g (lw_at lw_m7 136 rfl) rfl
theorem q1660 : (Jvm.Cond.code ({ cls := "java/lang/String", name := "checkIndex", desc := "(II)V" } : Jvm.MethodName) prog_35_method_155_code (2 : Nat) (Option.none : Option Jvm.ClassFile.FieldType)) ∈ lw_all := lw_g (lw_at lw_m7 137 rfl) rfl
theorem q1661 : (Jvm.Cond.methodLink "java/lang/String" (1059 : Nat) ({ cls := "jdk/internal/util/Preconditions", name := "checkIndex", desc := "(IILjava/util/function/BiFunction;)I" } : Jvm.MethodName)) ∈ lw_all := lw_g (lw_at lw_m7 138 rfl) rfl
theorem q1770 : (Jvm.Cond.instanceMethod ({ cls := "java/lang/String", name := "charAt", desc := "(I)C" } : Jvm.MethodName)) ∈ lw_all := lw_g (lw_at lw_m8 7 rfl) rfl
theorem q1771 : (Jvm.Cond.selects "java/lang/String" ({ cls := "java/lang/String", name := "charAt", desc := "(I)C" } : Jvm.MethodName) ({ cls := "java/lang/String", name := "charAt", desc := "(I)C" } : Jvm.MethodName)) ∈ lw_all := lw_g (lw_at lw_m8 8 rfl) rfl
theorem q1772 : (Jvm.Cond.code ({ cls := "java/lang/String", name := "charAt", desc := "(I)C" } : Jvm.MethodName) prog_35_method_56_code (2 : Nat) (Option.some Jvm.ClassFile.FieldType.char)) ∈ lw_all := lw_g (lw_at lw_m8 9 rfl) rfl
theorem q1773 : (Jvm.Cond.methodLink "java/lang/String" (492 : Nat) ({ cls := "java/lang/String", name := "isLatin1", desc := "()Z" } : Jvm.MethodName)) ∈ lw_all := lw_g (lw_at lw_m8 10 rfl) rfl
theorem q1774 : (Jvm.Cond.instanceMethod ({ cls := "java/lang/String", name := "isLatin1", desc := "()Z" } : Jvm.MethodName)) ∈ lw_all := lw_g (lw_at lw_m8 11 rfl) rfl
theorem q1775 : (Jvm.Cond.selects "java/lang/String" ({ cls := "java/lang/String", name := "isLatin1", desc := "()Z" } : Jvm.MethodName) ({ cls := "java/lang/String", name := "isLatin1", desc := "()Z" } : Jvm.MethodName)) ∈ lw_all := lw_g (lw_at lw_m8 12 rfl) rfl
theorem q1776 : (Jvm.Cond.code ({ cls := "java/lang/String", name := "isLatin1", desc := "()Z" } : Jvm.MethodName) prog_35_method_154_code (1 : Nat) (Option.some Jvm.ClassFile.FieldType.boolean)) ∈ lw_all := lw_g (lw_at lw_m8 13 rfl) rfl
theorem q1777 : (Jvm.Cond.methodLink "java/lang/String" (495 : Nat) ({ cls := "java/lang/StringLatin1", name := "charAt", desc := "([BI)C" } : Jvm.MethodName)) ∈ lw_all := lw_g (lw_at lw_m8 14 rfl) rfl
theorem q1781 : (Jvm.Cond.methodLink "java/lang/String" (498 : Nat) ({ cls := "java/lang/StringUTF16", name := "charAt", desc := "([BI)C" } : Jvm.MethodName)) ∈ lw_all := lw_g (lw_at lw_m8 18 rfl) rfl
theorem q2111 : (Jvm.Cond.instanceMethod ({ cls := "java/lang/String", name := "hashCode", desc := "()I" } : Jvm.MethodName)) ∈ lw_all := lw_g (lw_at lw_m9 108 rfl) rfl
theorem q2112 : (Jvm.Cond.selects "java/lang/String" ({ cls := "java/lang/String", name := "hashCode", desc := "()I" } : Jvm.MethodName) ({ cls := "java/lang/String", name := "hashCode", desc := "()I" } : Jvm.MethodName)) ∈ lw_all := lw_g (lw_at lw_m9 109 rfl) rfl
theorem q2113 : (Jvm.Cond.code ({ cls := "java/lang/String", name := "hashCode", desc := "()I" } : Jvm.MethodName) prog_35_method_78_code (2 : Nat) (Option.some Jvm.ClassFile.FieldType.int)) ∈ lw_all := lw_g (lw_at lw_m9 110 rfl) rfl
theorem q2114 : (Jvm.Cond.methodLink "java/lang/String" (628 : Nat) ({ cls := "java/lang/StringLatin1", name := "hashCode", desc := "([B)I" } : Jvm.MethodName)) ∈ lw_all := lw_g (lw_at lw_m9 111 rfl) rfl
theorem q2163 : (Jvm.Cond.methodLink "java/lang/String" (632 : Nat) ({ cls := "java/lang/StringUTF16", name := "hashCode", desc := "([B)I" } : Jvm.MethodName)) ∈ lw_all := lw_g (lw_at lw_m9 160 rfl) rfl
theorem q2169 : (Jvm.Cond.instanceMethod ({ cls := "java/lang/String", name := "equals", desc := "(Ljava/lang/Object;)Z" } : Jvm.MethodName)) ∈ lw_all := lw_g (lw_at lw_m9 166 rfl) rfl
theorem q2170 : (Jvm.Cond.selects "java/lang/String" ({ cls := "java/lang/String", name := "equals", desc := "(Ljava/lang/Object;)Z" } : Jvm.MethodName) ({ cls := "java/lang/String", name := "equals", desc := "(Ljava/lang/Object;)Z" } : Jvm.MethodName)) ∈ lw_all := lw_g (lw_at lw_m9 167 rfl) rfl
theorem q2171 : (Jvm.Cond.code ({ cls := "java/lang/String", name := "equals", desc := "(Ljava/lang/Object;)Z" } : Jvm.MethodName) prog_35_method_66_code (3 : Nat) (Option.some Jvm.ClassFile.FieldType.boolean)) ∈ lw_all := lw_g (lw_at lw_m9 168 rfl) rfl
theorem q2172 : (Jvm.Cond.classLink "java/lang/String" (10 : Nat) "java/lang/String") ∈ lw_all := lw_g (lw_at lw_m9 169 rfl) rfl
theorem q2173 : (Jvm.Cond.methodLink "java/lang/String" (541 : Nat) ({ cls := "java/lang/StringLatin1", name := "equals", desc := "([B[B)Z" } : Jvm.MethodName)) ∈ lw_all := lw_g (lw_at lw_m9 170 rfl) rfl
theorem q2809 : (Jvm.Cond.castable "java/lang/String" "java/lang/Object") ∈ lw_tbl := lw_at lw_m12 86 rfl
theorem in_J4 : ∀ w ∈ wsJ40, w ∈ lw_all := lw_in wsJ40 [1164, 1166, 1168, 1170] (by decide +kernel) (by decide +kernel)
/-! java/lang/StringUTF16 -/
set_option maxRecDepth 100000
def RJ5 : String := "java/lang/StringUTF16"
abbrev cJ5_newBytesFor : ByteArray := prog_39_method_2_code
def yJ5_newBytesFor : MethodName := ⟨RJ5, "newBytesFor", "(I)[B"⟩
def dkwJ5_newBytesFor_0 : List UInt8 := [26, 184, 0, 11, 188, 8, 176]
abbrev dktJ5_newBytesFor_0 : List UInt8 := dkwJ5_newBytesFor_0 ++ []
theorem dksJ5_newBytesFor_0 : cJ5_newBytesFor.data.toList.drop 0 = dktJ5_newBytesFor_0 := by decide +kernel
theorem dJ5_newBytesFor_0 : decode cJ5_newBytesFor 0 = .ok (.iload_n 0, 1) := dk_26 (dk_at dksJ5_newBytesFor_0 0 rfl rfl)
theorem dJ5_newBytesFor_1 : decode cJ5_newBytesFor 1 = .ok (.invokestatic 11, 3) := dk_184 0 11 (dk_at dksJ5_newBytesFor_0 1 rfl rfl)
theorem dJ5_newBytesFor_4 : decode cJ5_newBytesFor 4 = .ok (.newarray .byte, 2) := dk_188_8 (dk_at dksJ5_newBytesFor_0 4 rfl rfl)
theorem dJ5_newBytesFor_6 : decode cJ5_newBytesFor 6 = .ok (.areturn, 1) := dk_176 (dk_at dksJ5_newBytesFor_0 6 rfl rfl)
abbrev cJ5_newBytesLength : ByteArray := prog_39_method_3_code
def yJ5_newBytesLength : MethodName := ⟨RJ5, "newBytesLength", "(I)I"⟩
def dkwJ5_newBytesLength_2 : List UInt8 := [182, 0, 32, 182, 0, 37, 183, 0, 41, 191, 26, 4, 120, 172]
abbrev dktJ5_newBytesLength_2 : List UInt8 := dkwJ5_newBytesLength_2 ++ []
def dkwJ5_newBytesLength_1 : List UInt8 := [187, 0, 23, 89, 183, 0, 25, 18, 26, 182, 0, 28, 26, 182, 0, 32, 18, 35, 182, 0, 28, 18, 20]
abbrev dktJ5_newBytesLength_1 : List UInt8 := dkwJ5_newBytesLength_1 ++ dktJ5_newBytesLength_2
def dkwJ5_newBytesLength_0 : List UInt8 := [26, 156, 0, 11, 187, 0, 17, 89, 183, 0, 19, 191, 26, 18, 20, 161, 0, 40, 187, 0, 21, 89]
abbrev dktJ5_newBytesLength_0 : List UInt8 := dkwJ5_newBytesLength_0 ++ dktJ5_newBytesLength_1
theorem dksJ5_newBytesLength_0 : cJ5_newBytesLength.data.toList.drop 0 = dktJ5_newBytesLength_0 := by decide +kernel
theorem dksJ5_newBytesLength_1 : cJ5_newBytesLength.data.toList.drop 22 = dktJ5_newBytesLength_1 := dk_seg dksJ5_newBytesLength_0 22 rfl rfl
theorem dksJ5_newBytesLength_2 : cJ5_newBytesLength.data.toList.drop 45 = dktJ5_newBytesLength_2 := dk_seg dksJ5_newBytesLength_1 23 rfl rfl
theorem dJ5_newBytesLength_0 : decode cJ5_newBytesLength 0 = .ok (.iload_n 0, 1) := dk_26 (dk_at dksJ5_newBytesLength_0 0 rfl rfl)
theorem dJ5_newBytesLength_1 : decode cJ5_newBytesLength 1 = .ok (.ifCond .ge 11, 3) := dk_156 0 11 (dk_at dksJ5_newBytesLength_0 1 rfl rfl)
theorem dJ5_newBytesLength_4 : decode cJ5_newBytesLength 4 = .ok (.new 17, 3) := dk_187 0 17 (dk_at dksJ5_newBytesLength_0 4 rfl rfl)
theorem dJ5_newBytesLength_7 : decode cJ5_newBytesLength 7 = .ok (.dup, 1) := dk_89 (dk_at dksJ5_newBytesLength_0 7 rfl rfl)
theorem dJ5_newBytesLength_8 : decode cJ5_newBytesLength 8 = .ok (.invokespecial 19, 3) := dk_183 0 19 (dk_at dksJ5_newBytesLength_0 8 rfl rfl)
theorem dJ5_newBytesLength_11 : decode cJ5_newBytesLength 11 = .ok (.athrow, 1) := dk_191 (dk_at dksJ5_newBytesLength_0 11 rfl rfl)
theorem dJ5_newBytesLength_12 : decode cJ5_newBytesLength 12 = .ok (.iload_n 0, 1) := dk_26 (dk_at dksJ5_newBytesLength_0 12 rfl rfl)
theorem dJ5_newBytesLength_13 : decode cJ5_newBytesLength 13 = .ok (.ldc 20, 2) := dk_18 20 (dk_at dksJ5_newBytesLength_0 13 rfl rfl)
theorem dJ5_newBytesLength_15 : decode cJ5_newBytesLength 15 = .ok (.if_icmp .lt 40, 3) := dk_161 0 40 (dk_at dksJ5_newBytesLength_0 15 rfl rfl)
theorem dJ5_newBytesLength_18 : decode cJ5_newBytesLength 18 = .ok (.new 21, 3) := dk_187 0 21 (dk_at dksJ5_newBytesLength_0 18 rfl rfl)
theorem dJ5_newBytesLength_21 : decode cJ5_newBytesLength 21 = .ok (.dup, 1) := dk_89 (dk_at dksJ5_newBytesLength_0 21 rfl rfl)
theorem dJ5_newBytesLength_22 : decode cJ5_newBytesLength 22 = .ok (.new 23, 3) := dk_187 0 23 (dk_at dksJ5_newBytesLength_1 0 rfl rfl)
theorem dJ5_newBytesLength_25 : decode cJ5_newBytesLength 25 = .ok (.dup, 1) := dk_89 (dk_at dksJ5_newBytesLength_1 3 rfl rfl)
theorem dJ5_newBytesLength_26 : decode cJ5_newBytesLength 26 = .ok (.invokespecial 25, 3) := dk_183 0 25 (dk_at dksJ5_newBytesLength_1 4 rfl rfl)
theorem dJ5_newBytesLength_29 : decode cJ5_newBytesLength 29 = .ok (.ldc 26, 2) := dk_18 26 (dk_at dksJ5_newBytesLength_1 7 rfl rfl)
theorem dJ5_newBytesLength_31 : decode cJ5_newBytesLength 31 = .ok (.invokevirtual 28, 3) := dk_182 0 28 (dk_at dksJ5_newBytesLength_1 9 rfl rfl)
theorem dJ5_newBytesLength_34 : decode cJ5_newBytesLength 34 = .ok (.iload_n 0, 1) := dk_26 (dk_at dksJ5_newBytesLength_1 12 rfl rfl)
theorem dJ5_newBytesLength_35 : decode cJ5_newBytesLength 35 = .ok (.invokevirtual 32, 3) := dk_182 0 32 (dk_at dksJ5_newBytesLength_1 13 rfl rfl)
theorem dJ5_newBytesLength_38 : decode cJ5_newBytesLength 38 = .ok (.ldc 35, 2) := dk_18 35 (dk_at dksJ5_newBytesLength_1 16 rfl rfl)
theorem dJ5_newBytesLength_40 : decode cJ5_newBytesLength 40 = .ok (.invokevirtual 28, 3) := dk_182 0 28 (dk_at dksJ5_newBytesLength_1 18 rfl rfl)
theorem dJ5_newBytesLength_43 : decode cJ5_newBytesLength 43 = .ok (.ldc 20, 2) := dk_18 20 (dk_at dksJ5_newBytesLength_1 21 rfl rfl)
theorem dJ5_newBytesLength_45 : decode cJ5_newBytesLength 45 = .ok (.invokevirtual 32, 3) := dk_182 0 32 (dk_at dksJ5_newBytesLength_2 0 rfl rfl)
theorem dJ5_newBytesLength_48 : decode cJ5_newBytesLength 48 = .ok (.invokevirtual 37, 3) := dk_182 0 37 (dk_at dksJ5_newBytesLength_2 3 rfl rfl)
theorem dJ5_newBytesLength_51 : decode cJ5_newBytesLength 51 = .ok (.invokespecial 41, 3) := dk_183 0 41 (dk_at dksJ5_newBytesLength_2 6 rfl rfl)
theorem dJ5_newBytesLength_54 : decode cJ5_newBytesLength 54 = .ok (.athrow, 1) := dk_191 (dk_at dksJ5_newBytesLength_2 9 rfl rfl)
theorem dJ5_newBytesLength_55 : decode cJ5_newBytesLength 55 = .ok (.iload_n 0, 1) := dk_26 (dk_at dksJ5_newBytesLength_2 10 rfl rfl)
theorem dJ5_newBytesLength_56 : decode cJ5_newBytesLength 56 = .ok (.iconst 1, 1) := dk_4 (dk_at dksJ5_newBytesLength_2 11 rfl rfl)
theorem dJ5_newBytesLength_57 : decode cJ5_newBytesLength 57 = .ok (.ishl, 1) := dk_120 (dk_at dksJ5_newBytesLength_2 12 rfl rfl)
theorem dJ5_newBytesLength_58 : decode cJ5_newBytesLength 58 = .ok (.ireturn, 1) := dk_172 (dk_at dksJ5_newBytesLength_2 13 rfl rfl)
abbrev cJ5_putCharsAt : ByteArray := prog_39_method_81_code
def yJ5_putCharsAt : MethodName := ⟨RJ5, "putCharsAt", "([BICCCC)I"⟩
def dkwJ5_putCharsAt_3 : List UInt8 := [21, 6, 172]
abbrev dktJ5_putCharsAt_3 : List UInt8 := dkwJ5_putCharsAt_3 ++ []
def dkwJ5_putCharsAt_2 : List UInt8 := [184, 0, 111, 178, 0, 44, 154, 0, 17, 27, 21, 6, 159, 0, 11, 187, 0, 52, 89, 183, 0, 66, 191]
abbrev dktJ5_putCharsAt_2 : List UInt8 := dkwJ5_putCharsAt_2 ++ dktJ5_putCharsAt_3
def dkwJ5_putCharsAt_1 : List UInt8 := [132, 1, 1, 29, 184, 0, 111, 42, 27, 132, 1, 1, 21, 4, 184, 0, 111, 42, 27, 132, 1, 1, 21, 5]
abbrev dktJ5_putCharsAt_1 : List UInt8 := dkwJ5_putCharsAt_1 ++ dktJ5_putCharsAt_2
def dkwJ5_putCharsAt_0 : List UInt8 := [27, 7, 96, 54, 6, 27, 21, 6, 42, 184, 0, 96, 42, 27, 132, 1, 1, 28, 184, 0, 111, 42, 27]
abbrev dktJ5_putCharsAt_0 : List UInt8 := dkwJ5_putCharsAt_0 ++ dktJ5_putCharsAt_1
theorem dksJ5_putCharsAt_0 : cJ5_putCharsAt.data.toList.drop 0 = dktJ5_putCharsAt_0 := by decide +kernel
theorem dksJ5_putCharsAt_1 : cJ5_putCharsAt.data.toList.drop 23 = dktJ5_putCharsAt_1 := dk_seg dksJ5_putCharsAt_0 23 rfl rfl
theorem dksJ5_putCharsAt_2 : cJ5_putCharsAt.data.toList.drop 47 = dktJ5_putCharsAt_2 := dk_seg dksJ5_putCharsAt_1 24 rfl rfl
theorem dksJ5_putCharsAt_3 : cJ5_putCharsAt.data.toList.drop 70 = dktJ5_putCharsAt_3 := dk_seg dksJ5_putCharsAt_2 23 rfl rfl
theorem dJ5_putCharsAt_0 : decode cJ5_putCharsAt 0 = .ok (.iload_n 1, 1) := dk_27 (dk_at dksJ5_putCharsAt_0 0 rfl rfl)
theorem dJ5_putCharsAt_1 : decode cJ5_putCharsAt 1 = .ok (.iconst 4, 1) := dk_7 (dk_at dksJ5_putCharsAt_0 1 rfl rfl)
theorem dJ5_putCharsAt_2 : decode cJ5_putCharsAt 2 = .ok (.iadd, 1) := dk_96 (dk_at dksJ5_putCharsAt_0 2 rfl rfl)
theorem dJ5_putCharsAt_3 : decode cJ5_putCharsAt 3 = .ok (.istore 6, 2) := dk_54 6 (dk_at dksJ5_putCharsAt_0 3 rfl rfl)
theorem dJ5_putCharsAt_5 : decode cJ5_putCharsAt 5 = .ok (.iload_n 1, 1) := dk_27 (dk_at dksJ5_putCharsAt_0 5 rfl rfl)
theorem dJ5_putCharsAt_6 : decode cJ5_putCharsAt 6 = .ok (.iload 6, 2) := dk_21 6 (dk_at dksJ5_putCharsAt_0 6 rfl rfl)
theorem dJ5_putCharsAt_8 : decode cJ5_putCharsAt 8 = .ok (.aload_n 0, 1) := dk_42 (dk_at dksJ5_putCharsAt_0 8 rfl rfl)
theorem dJ5_putCharsAt_9 : decode cJ5_putCharsAt 9 = .ok (.invokestatic 96, 3) := dk_184 0 96 (dk_at dksJ5_putCharsAt_0 9 rfl rfl)
theorem dJ5_putCharsAt_12 : decode cJ5_putCharsAt 12 = .ok (.aload_n 0, 1) := dk_42 (dk_at dksJ5_putCharsAt_0 12 rfl rfl)
theorem dJ5_putCharsAt_13 : decode cJ5_putCharsAt 13 = .ok (.iload_n 1, 1) := dk_27 (dk_at dksJ5_putCharsAt_0 13 rfl rfl)
theorem dJ5_putCharsAt_14 : decode cJ5_putCharsAt 14 = .ok (.iinc 1 1, 3) := dk_132 1 1 (dk_at dksJ5_putCharsAt_0 14 rfl rfl)
theorem dJ5_putCharsAt_17 : decode cJ5_putCharsAt 17 = .ok (.iload_n 2, 1) := dk_28 (dk_at dksJ5_putCharsAt_0 17 rfl rfl)
theorem dJ5_putCharsAt_18 : decode cJ5_putCharsAt 18 = .ok (.invokestatic 111, 3) := dk_184 0 111 (dk_at dksJ5_putCharsAt_0 18 rfl rfl)
theorem dJ5_putCharsAt_21 : decode cJ5_putCharsAt 21 = .ok (.aload_n 0, 1) := dk_42 (dk_at dksJ5_putCharsAt_0 21 rfl rfl)
theorem dJ5_putCharsAt_22 : decode cJ5_putCharsAt 22 = .ok (.iload_n 1, 1) := dk_27 (dk_at dksJ5_putCharsAt_0 22 rfl rfl)
theorem dJ5_putCharsAt_23 : decode cJ5_putCharsAt 23 = .ok (.iinc 1 1, 3) := dk_132 1 1 (dk_at dksJ5_putCharsAt_1 0 rfl rfl)
theorem dJ5_putCharsAt_26 : decode cJ5_putCharsAt 26 = .ok (.iload_n 3, 1) := dk_29 (dk_at dksJ5_putCharsAt_1 3 rfl rfl)
theorem dJ5_putCharsAt_27 : decode cJ5_putCharsAt 27 = .ok (.invokestatic 111, 3) := dk_184 0 111 (dk_at dksJ5_putCharsAt_1 4 rfl rfl)
theorem dJ5_putCharsAt_30 : decode cJ5_putCharsAt 30 = .ok (.aload_n 0, 1) := dk_42 (dk_at dksJ5_putCharsAt_1 7 rfl rfl)
theorem dJ5_putCharsAt_31 : decode cJ5_putCharsAt 31 = .ok (.iload_n 1, 1) := dk_27 (dk_at dksJ5_putCharsAt_1 8 rfl rfl)
theorem dJ5_putCharsAt_32 : decode cJ5_putCharsAt 32 = .ok (.iinc 1 1, 3) := dk_132 1 1 (dk_at dksJ5_putCharsAt_1 9 rfl rfl)
theorem dJ5_putCharsAt_35 : decode cJ5_putCharsAt 35 = .ok (.iload 4, 2) := dk_21 4 (dk_at dksJ5_putCharsAt_1 12 rfl rfl)
theorem dJ5_putCharsAt_37 : decode cJ5_putCharsAt 37 = .ok (.invokestatic 111, 3) := dk_184 0 111 (dk_at dksJ5_putCharsAt_1 14 rfl rfl)
theorem dJ5_putCharsAt_40 : decode cJ5_putCharsAt 40 = .ok (.aload_n 0, 1) := dk_42 (dk_at dksJ5_putCharsAt_1 17 rfl rfl)
theorem dJ5_putCharsAt_41 : decode cJ5_putCharsAt 41 = .ok (.iload_n 1, 1) := dk_27 (dk_at dksJ5_putCharsAt_1 18 rfl rfl)
theorem dJ5_putCharsAt_42 : decode cJ5_putCharsAt 42 = .ok (.iinc 1 1, 3) := dk_132 1 1 (dk_at dksJ5_putCharsAt_1 19 rfl rfl)
theorem dJ5_putCharsAt_45 : decode cJ5_putCharsAt 45 = .ok (.iload 5, 2) := dk_21 5 (dk_at dksJ5_putCharsAt_1 22 rfl rfl)
theorem dJ5_putCharsAt_47 : decode cJ5_putCharsAt 47 = .ok (.invokestatic 111, 3) := dk_184 0 111 (dk_at dksJ5_putCharsAt_2 0 rfl rfl)
theorem dJ5_putCharsAt_50 : decode cJ5_putCharsAt 50 = .ok (.getstatic 44, 3) := dk_178 0 44 (dk_at dksJ5_putCharsAt_2 3 rfl rfl)
theorem dJ5_putCharsAt_53 : decode cJ5_putCharsAt 53 = .ok (.ifCond .ne 17, 3) := dk_154 0 17 (dk_at dksJ5_putCharsAt_2 6 rfl rfl)
theorem dJ5_putCharsAt_56 : decode cJ5_putCharsAt 56 = .ok (.iload_n 1, 1) := dk_27 (dk_at dksJ5_putCharsAt_2 9 rfl rfl)
theorem dJ5_putCharsAt_57 : decode cJ5_putCharsAt 57 = .ok (.iload 6, 2) := dk_21 6 (dk_at dksJ5_putCharsAt_2 10 rfl rfl)
theorem dJ5_putCharsAt_59 : decode cJ5_putCharsAt 59 = .ok (.if_icmp .eq 11, 3) := dk_159 0 11 (dk_at dksJ5_putCharsAt_2 12 rfl rfl)
theorem dJ5_putCharsAt_62 : decode cJ5_putCharsAt 62 = .ok (.new 52, 3) := dk_187 0 52 (dk_at dksJ5_putCharsAt_2 15 rfl rfl)
theorem dJ5_putCharsAt_65 : decode cJ5_putCharsAt 65 = .ok (.dup, 1) := dk_89 (dk_at dksJ5_putCharsAt_2 18 rfl rfl)
theorem dJ5_putCharsAt_66 : decode cJ5_putCharsAt 66 = .ok (.invokespecial 66, 3) := dk_183 0 66 (dk_at dksJ5_putCharsAt_2 19 rfl rfl)
theorem dJ5_putCharsAt_69 : decode cJ5_putCharsAt 69 = .ok (.athrow, 1) := dk_191 (dk_at dksJ5_putCharsAt_2 22 rfl rfl)
theorem dJ5_putCharsAt_70 : decode cJ5_putCharsAt 70 = .ok (.iload 6, 2) := dk_21 6 (dk_at dksJ5_putCharsAt_3 0 rfl rfl)
theorem dJ5_putCharsAt_72 : decode cJ5_putCharsAt 72 = .ok (.ireturn, 1) := dk_172 (dk_at dksJ5_putCharsAt_3 2 rfl rfl)
abbrev cJ5_checkBoundsBeginEnd : ByteArray := prog_39_method_93_code
def yJ5_checkBoundsBeginEnd : MethodName := ⟨RJ5, "checkBoundsBeginEnd", "(II[B)V"⟩
def dkwJ5_checkBoundsBeginEnd_0 : List UInt8 := [26, 27, 44, 184, 0, 48, 184, 0, 241, 177]
abbrev dktJ5_checkBoundsBeginEnd_0 : List UInt8 := dkwJ5_checkBoundsBeginEnd_0 ++ []
theorem dksJ5_checkBoundsBeginEnd_0 : cJ5_checkBoundsBeginEnd.data.toList.drop 0 = dktJ5_checkBoundsBeginEnd_0 := by decide +kernel
theorem dJ5_checkBoundsBeginEnd_0 : decode cJ5_checkBoundsBeginEnd 0 = .ok (.iload_n 0, 1) := dk_26 (dk_at dksJ5_checkBoundsBeginEnd_0 0 rfl rfl)
theorem dJ5_checkBoundsBeginEnd_1 : decode cJ5_checkBoundsBeginEnd 1 = .ok (.iload_n 1, 1) := dk_27 (dk_at dksJ5_checkBoundsBeginEnd_0 1 rfl rfl)
theorem dJ5_checkBoundsBeginEnd_2 : decode cJ5_checkBoundsBeginEnd 2 = .ok (.aload_n 2, 1) := dk_44 (dk_at dksJ5_checkBoundsBeginEnd_0 2 rfl rfl)
theorem dJ5_checkBoundsBeginEnd_3 : decode cJ5_checkBoundsBeginEnd 3 = .ok (.invokestatic 48, 3) := dk_184 0 48 (dk_at dksJ5_checkBoundsBeginEnd_0 3 rfl rfl)
theorem dJ5_checkBoundsBeginEnd_6 : decode cJ5_checkBoundsBeginEnd 6 = .ok (.invokestatic 241, 3) := dk_184 0 241 (dk_at dksJ5_checkBoundsBeginEnd_0 6 rfl rfl)
theorem dJ5_checkBoundsBeginEnd_9 : decode cJ5_checkBoundsBeginEnd 9 = .ok (.return_, 1) := dk_177 (dk_at dksJ5_checkBoundsBeginEnd_0 9 rfl rfl)
abbrev cJ5_length : ByteArray := prog_39_method_6_code
def yJ5_length : MethodName := ⟨RJ5, "length", "([B)I"⟩
def dkwJ5_length_0 : List UInt8 := [42, 190, 4, 122, 172]
abbrev dktJ5_length_0 : List UInt8 := dkwJ5_length_0 ++ []
theorem dksJ5_length_0 : cJ5_length.data.toList.drop 0 = dktJ5_length_0 := by decide +kernel
theorem dJ5_length_0 : decode cJ5_length 0 = .ok (.aload_n 0, 1) := dk_42 (dk_at dksJ5_length_0 0 rfl rfl)
theorem dJ5_length_1 : decode cJ5_length 1 = .ok (.arraylength, 1) := dk_190 (dk_at dksJ5_length_0 1 rfl rfl)
theorem dJ5_length_2 : decode cJ5_length 2 = .ok (.iconst 1, 1) := dk_4 (dk_at dksJ5_length_0 2 rfl rfl)
theorem dJ5_length_3 : decode cJ5_length 3 = .ok (.ishr, 1) := dk_122 (dk_at dksJ5_length_0 3 rfl rfl)
theorem dJ5_length_4 : decode cJ5_length 4 = .ok (.ireturn, 1) := dk_172 (dk_at dksJ5_length_0 4 rfl rfl)
abbrev cJ5_putChar : ByteArray := prog_39_method_4_code
def yJ5_putChar : MethodName := ⟨RJ5, "putChar", "([BII)V"⟩
def dkwJ5_putChar_2 : List UInt8 := [178, 0, 63, 122, 145, 84, 177]
abbrev dktJ5_putChar_2 : List UInt8 := dkwJ5_putChar_2 ++ []
def dkwJ5_putChar_1 : List UInt8 := [183, 0, 56, 191, 27, 4, 120, 60, 42, 27, 132, 1, 1, 28, 178, 0, 59, 122, 145, 84, 42, 27, 28]
abbrev dktJ5_putChar_1 : List UInt8 := dkwJ5_putChar_1 ++ dktJ5_putChar_2
def dkwJ5_putChar_0 : List UInt8 := [178, 0, 44, 154, 0, 25, 27, 155, 0, 11, 27, 42, 184, 0, 48, 161, 0, 13, 187, 0, 52, 89, 18, 54]
abbrev dktJ5_putChar_0 : List UInt8 := dkwJ5_putChar_0 ++ dktJ5_putChar_1
theorem dksJ5_putChar_0 : cJ5_putChar.data.toList.drop 0 = dktJ5_putChar_0 := by decide +kernel
theorem dksJ5_putChar_1 : cJ5_putChar.data.toList.drop 24 = dktJ5_putChar_1 := dk_seg dksJ5_putChar_0 24 rfl rfl
theorem dksJ5_putChar_2 : cJ5_putChar.data.toList.drop 47 = dktJ5_putChar_2 := dk_seg dksJ5_putChar_1 23 rfl rfl
theorem dJ5_putChar_0 : decode cJ5_putChar 0 = .ok (.getstatic 44, 3) := dk_178 0 44 (dk_at dksJ5_putChar_0 0 rfl rfl)
theorem dJ5_putChar_3 : decode cJ5_putChar 3 = .ok (.ifCond .ne 25, 3) := dk_154 0 25 (dk_at dksJ5_putChar_0 3 rfl rfl)
theorem dJ5_putChar_6 : decode cJ5_putChar 6 = .ok (.iload_n 1, 1) := dk_27 (dk_at dksJ5_putChar_0 6 rfl rfl)
theorem dJ5_putChar_7 : decode cJ5_putChar 7 = .ok (.ifCond .lt 11, 3) := dk_155 0 11 (dk_at dksJ5_putChar_0 7 rfl rfl)
theorem dJ5_putChar_10 : decode cJ5_putChar 10 = .ok (.iload_n 1, 1) := dk_27 (dk_at dksJ5_putChar_0 10 rfl rfl)
theorem dJ5_putChar_11 : decode cJ5_putChar 11 = .ok (.aload_n 0, 1) := dk_42 (dk_at dksJ5_putChar_0 11 rfl rfl)
theorem dJ5_putChar_12 : decode cJ5_putChar 12 = .ok (.invokestatic 48, 3) := dk_184 0 48 (dk_at dksJ5_putChar_0 12 rfl rfl)
theorem dJ5_putChar_15 : decode cJ5_putChar 15 = .ok (.if_icmp .lt 13, 3) := dk_161 0 13 (dk_at dksJ5_putChar_0 15 rfl rfl)
theorem dJ5_putChar_18 : decode cJ5_putChar 18 = .ok (.new 52, 3) := dk_187 0 52 (dk_at dksJ5_putChar_0 18 rfl rfl)
theorem dJ5_putChar_21 : decode cJ5_putChar 21 = .ok (.dup, 1) := dk_89 (dk_at dksJ5_putChar_0 21 rfl rfl)
theorem dJ5_putChar_22 : decode cJ5_putChar 22 = .ok (.ldc 54, 2) := dk_18 54 (dk_at dksJ5_putChar_0 22 rfl rfl)
theorem dJ5_putChar_24 : decode cJ5_putChar 24 = .ok (.invokespecial 56, 3) := dk_183 0 56 (dk_at dksJ5_putChar_1 0 rfl rfl)
theorem dJ5_putChar_27 : decode cJ5_putChar 27 = .ok (.athrow, 1) := dk_191 (dk_at dksJ5_putChar_1 3 rfl rfl)
theorem dJ5_putChar_28 : decode cJ5_putChar 28 = .ok (.iload_n 1, 1) := dk_27 (dk_at dksJ5_putChar_1 4 rfl rfl)
theorem dJ5_putChar_29 : decode cJ5_putChar 29 = .ok (.iconst 1, 1) := dk_4 (dk_at dksJ5_putChar_1 5 rfl rfl)
theorem dJ5_putChar_30 : decode cJ5_putChar 30 = .ok (.ishl, 1) := dk_120 (dk_at dksJ5_putChar_1 6 rfl rfl)
theorem dJ5_putChar_31 : decode cJ5_putChar 31 = .ok (.istore_n 1, 1) := dk_60 (dk_at dksJ5_putChar_1 7 rfl rfl)
theorem dJ5_putChar_32 : decode cJ5_putChar 32 = .ok (.aload_n 0, 1) := dk_42 (dk_at dksJ5_putChar_1 8 rfl rfl)
theorem dJ5_putChar_33 : decode cJ5_putChar 33 = .ok (.iload_n 1, 1) := dk_27 (dk_at dksJ5_putChar_1 9 rfl rfl)
theorem dJ5_putChar_34 : decode cJ5_putChar 34 = .ok (.iinc 1 1, 3) := dk_132 1 1 (dk_at dksJ5_putChar_1 10 rfl rfl)
theorem dJ5_putChar_37 : decode cJ5_putChar 37 = .ok (.iload_n 2, 1) := dk_28 (dk_at dksJ5_putChar_1 13 rfl rfl)
theorem dJ5_putChar_38 : decode cJ5_putChar 38 = .ok (.getstatic 59, 3) := dk_178 0 59 (dk_at dksJ5_putChar_1 14 rfl rfl)
theorem dJ5_putChar_41 : decode cJ5_putChar 41 = .ok (.ishr, 1) := dk_122 (dk_at dksJ5_putChar_1 17 rfl rfl)
theorem dJ5_putChar_42 : decode cJ5_putChar 42 = .ok (.i2b, 1) := dk_145 (dk_at dksJ5_putChar_1 18 rfl rfl)
theorem dJ5_putChar_43 : decode cJ5_putChar 43 = .ok (.bastore, 1) := dk_84 (dk_at dksJ5_putChar_1 19 rfl rfl)
theorem dJ5_putChar_44 : decode cJ5_putChar 44 = .ok (.aload_n 0, 1) := dk_42 (dk_at dksJ5_putChar_1 20 rfl rfl)
theorem dJ5_putChar_45 : decode cJ5_putChar 45 = .ok (.iload_n 1, 1) := dk_27 (dk_at dksJ5_putChar_1 21 rfl rfl)
theorem dJ5_putChar_46 : decode cJ5_putChar 46 = .ok (.iload_n 2, 1) := dk_28 (dk_at dksJ5_putChar_1 22 rfl rfl)
theorem dJ5_putChar_47 : decode cJ5_putChar 47 = .ok (.getstatic 63, 3) := dk_178 0 63 (dk_at dksJ5_putChar_2 0 rfl rfl)
theorem dJ5_putChar_50 : decode cJ5_putChar 50 = .ok (.ishr, 1) := dk_122 (dk_at dksJ5_putChar_2 3 rfl rfl)
theorem dJ5_putChar_51 : decode cJ5_putChar 51 = .ok (.i2b, 1) := dk_145 (dk_at dksJ5_putChar_2 4 rfl rfl)
theorem dJ5_putChar_52 : decode cJ5_putChar 52 = .ok (.bastore, 1) := dk_84 (dk_at dksJ5_putChar_2 5 rfl rfl)
theorem dJ5_putChar_53 : decode cJ5_putChar 53 = .ok (.return_, 1) := dk_177 (dk_at dksJ5_putChar_2 6 rfl rfl)
abbrev cJ5_inflate : ByteArray := prog_39_method_86_code
def yJ5_inflate : MethodName := ⟨RJ5, "inflate", "([BI[BII)V"⟩
def dkwJ5_inflate_1 : List UInt8 := [132, 1, 1, 51, 17, 0, 255, 126, 184, 0, 111, 132, 5, 1, 167, 255, 228, 177]
abbrev dktJ5_inflate_1 : List UInt8 := dkwJ5_inflate_1 ++ []
def dkwJ5_inflate_0 : List UInt8 := [29, 21, 4, 44, 184, 0, 173, 3, 54, 5, 21, 5, 21, 4, 162, 0, 27, 44, 29, 132, 3, 1, 42, 27]
abbrev dktJ5_inflate_0 : List UInt8 := dkwJ5_inflate_0 ++ dktJ5_inflate_1
theorem dksJ5_inflate_0 : cJ5_inflate.data.toList.drop 0 = dktJ5_inflate_0 := by decide +kernel
theorem dksJ5_inflate_1 : cJ5_inflate.data.toList.drop 24 = dktJ5_inflate_1 := dk_seg dksJ5_inflate_0 24 rfl rfl
theorem dJ5_inflate_0 : decode cJ5_inflate 0 = .ok (.iload_n 3, 1) := dk_29 (dk_at dksJ5_inflate_0 0 rfl rfl)
theorem dJ5_inflate_1 : decode cJ5_inflate 1 = .ok (.iload 4, 2) := dk_21 4 (dk_at dksJ5_inflate_0 1 rfl rfl)
theorem dJ5_inflate_3 : decode cJ5_inflate 3 = .ok (.aload_n 2, 1) := dk_44 (dk_at dksJ5_inflate_0 3 rfl rfl)
theorem dJ5_inflate_4 : decode cJ5_inflate 4 = .ok (.invokestatic 173, 3) := dk_184 0 173 (dk_at dksJ5_inflate_0 4 rfl rfl)
theorem dJ5_inflate_7 : decode cJ5_inflate 7 = .ok (.iconst 0, 1) := dk_3 (dk_at dksJ5_inflate_0 7 rfl rfl)
theorem dJ5_inflate_8 : decode cJ5_inflate 8 = .ok (.istore 5, 2) := dk_54 5 (dk_at dksJ5_inflate_0 8 rfl rfl)
theorem dJ5_inflate_10 : decode cJ5_inflate 10 = .ok (.iload 5, 2) := dk_21 5 (dk_at dksJ5_inflate_0 10 rfl rfl)
theorem dJ5_inflate_12 : decode cJ5_inflate 12 = .ok (.iload 4, 2) := dk_21 4 (dk_at dksJ5_inflate_0 12 rfl rfl)
theorem dJ5_inflate_14 : decode cJ5_inflate 14 = .ok (.if_icmp .ge 27, 3) := dk_162 0 27 (dk_at dksJ5_inflate_0 14 rfl rfl)
theorem dJ5_inflate_17 : decode cJ5_inflate 17 = .ok (.aload_n 2, 1) := dk_44 (dk_at dksJ5_inflate_0 17 rfl rfl)
theorem dJ5_inflate_18 : decode cJ5_inflate 18 = .ok (.iload_n 3, 1) := dk_29 (dk_at dksJ5_inflate_0 18 rfl rfl)
theorem dJ5_inflate_19 : decode cJ5_inflate 19 = .ok (.iinc 3 1, 3) := dk_132 3 1 (dk_at dksJ5_inflate_0 19 rfl rfl)
theorem dJ5_inflate_22 : decode cJ5_inflate 22 = .ok (.aload_n 0, 1) := dk_42 (dk_at dksJ5_inflate_0 22 rfl rfl)
theorem dJ5_inflate_23 : decode cJ5_inflate 23 = .ok (.iload_n 1, 1) := dk_27 (dk_at dksJ5_inflate_0 23 rfl rfl)
theorem dJ5_inflate_24 : decode cJ5_inflate 24 = .ok (.iinc 1 1, 3) := dk_132 1 1 (dk_at dksJ5_inflate_1 0 rfl rfl)
theorem dJ5_inflate_27 : decode cJ5_inflate 27 = .ok (.baload, 1) := dk_51 (dk_at dksJ5_inflate_1 3 rfl rfl)
theorem dJ5_inflate_28 : decode cJ5_inflate 28 = .ok (.sipush 255, 3) := dk_17 0 255 (dk_at dksJ5_inflate_1 4 rfl rfl)
theorem dJ5_inflate_31 : decode cJ5_inflate 31 = .ok (.iand, 1) := dk_126 (dk_at dksJ5_inflate_1 7 rfl rfl)
theorem dJ5_inflate_32 : decode cJ5_inflate 32 = .ok (.invokestatic 111, 3) := dk_184 0 111 (dk_at dksJ5_inflate_1 8 rfl rfl)
theorem dJ5_inflate_35 : decode cJ5_inflate 35 = .ok (.iinc 5 1, 3) := dk_132 5 1 (dk_at dksJ5_inflate_1 11 rfl rfl)
theorem dJ5_inflate_38 : decode cJ5_inflate 38 = .ok (.goto (-28), 3) := dk_167 255 228 (dk_at dksJ5_inflate_1 14 rfl rfl)
theorem dJ5_inflate_41 : decode cJ5_inflate 41 = .ok (.return_, 1) := dk_177 (dk_at dksJ5_inflate_1 17 rfl rfl)
abbrev cJ5_checkBoundsOffCount : ByteArray := prog_39_method_94_code
def yJ5_checkBoundsOffCount : MethodName := ⟨RJ5, "checkBoundsOffCount", "(II[B)V"⟩
def dkwJ5_checkBoundsOffCount_0 : List UInt8 := [26, 27, 44, 184, 0, 48, 184, 1, 163, 87, 177]
abbrev dktJ5_checkBoundsOffCount_0 : List UInt8 := dkwJ5_checkBoundsOffCount_0 ++ []
theorem dksJ5_checkBoundsOffCount_0 : cJ5_checkBoundsOffCount.data.toList.drop 0 = dktJ5_checkBoundsOffCount_0 := by decide +kernel
theorem dJ5_checkBoundsOffCount_0 : decode cJ5_checkBoundsOffCount 0 = .ok (.iload_n 0, 1) := dk_26 (dk_at dksJ5_checkBoundsOffCount_0 0 rfl rfl)
theorem dJ5_checkBoundsOffCount_1 : decode cJ5_checkBoundsOffCount 1 = .ok (.iload_n 1, 1) := dk_27 (dk_at dksJ5_checkBoundsOffCount_0 1 rfl rfl)
theorem dJ5_checkBoundsOffCount_2 : decode cJ5_checkBoundsOffCount 2 = .ok (.aload_n 2, 1) := dk_44 (dk_at dksJ5_checkBoundsOffCount_0 2 rfl rfl)
theorem dJ5_checkBoundsOffCount_3 : decode cJ5_checkBoundsOffCount 3 = .ok (.invokestatic 48, 3) := dk_184 0 48 (dk_at dksJ5_checkBoundsOffCount_0 3 rfl rfl)
theorem dJ5_checkBoundsOffCount_6 : decode cJ5_checkBoundsOffCount 6 = .ok (.invokestatic 419, 3) := dk_184 1 163 (dk_at dksJ5_checkBoundsOffCount_0 6 rfl rfl)
theorem dJ5_checkBoundsOffCount_9 : decode cJ5_checkBoundsOffCount 9 = .ok (.pop, 1) := dk_87 (dk_at dksJ5_checkBoundsOffCount_0 9 rfl rfl)
theorem dJ5_checkBoundsOffCount_10 : decode cJ5_checkBoundsOffCount 10 = .ok (.return_, 1) := dk_177 (dk_at dksJ5_checkBoundsOffCount_0 10 rfl rfl)
abbrev cJ5_getChars : ByteArray := prog_39_method_77_code
def yJ5_getChars : MethodName := ⟨RJ5, "getChars", "(III[B)I"⟩
def dkwJ5_getChars_1 : List UInt8 := [159, 0, 11, 187, 0, 52, 89, 183, 0, 66, 191, 21, 4, 172]
abbrev dktJ5_getChars_1 : List UInt8 := dkwJ5_getChars_1 ++ []
def dkwJ5_getChars_0 : List UInt8 := [27, 28, 45, 184, 0, 96, 26, 28, 45, 184, 1, 137, 54, 4, 178, 0, 44, 154, 0, 17, 27, 21, 4]
abbrev dktJ5_getChars_0 : List UInt8 := dkwJ5_getChars_0 ++ dktJ5_getChars_1
theorem dksJ5_getChars_0 : cJ5_getChars.data.toList.drop 0 = dktJ5_getChars_0 := by decide +kernel
theorem dksJ5_getChars_1 : cJ5_getChars.data.toList.drop 23 = dktJ5_getChars_1 := dk_seg dksJ5_getChars_0 23 rfl rfl
theorem dJ5_getChars_0 : decode cJ5_getChars 0 = .ok (.iload_n 1, 1) := dk_27 (dk_at dksJ5_getChars_0 0 rfl rfl)
theorem dJ5_getChars_1 : decode cJ5_getChars 1 = .ok (.iload_n 2, 1) := dk_28 (dk_at dksJ5_getChars_0 1 rfl rfl)
theorem dJ5_getChars_2 : decode cJ5_getChars 2 = .ok (.aload_n 3, 1) := dk_45 (dk_at dksJ5_getChars_0 2 rfl rfl)
theorem dJ5_getChars_3 : decode cJ5_getChars 3 = .ok (.invokestatic 96, 3) := dk_184 0 96 (dk_at dksJ5_getChars_0 3 rfl rfl)
theorem dJ5_getChars_6 : decode cJ5_getChars 6 = .ok (.iload_n 0, 1) := dk_26 (dk_at dksJ5_getChars_0 6 rfl rfl)
theorem dJ5_getChars_7 : decode cJ5_getChars 7 = .ok (.iload_n 2, 1) := dk_28 (dk_at dksJ5_getChars_0 7 rfl rfl)
theorem dJ5_getChars_8 : decode cJ5_getChars 8 = .ok (.aload_n 3, 1) := dk_45 (dk_at dksJ5_getChars_0 8 rfl rfl)
theorem dJ5_getChars_9 : decode cJ5_getChars 9 = .ok (.invokestatic 393, 3) := dk_184 1 137 (dk_at dksJ5_getChars_0 9 rfl rfl)
theorem dJ5_getChars_12 : decode cJ5_getChars 12 = .ok (.istore 4, 2) := dk_54 4 (dk_at dksJ5_getChars_0 12 rfl rfl)
theorem dJ5_getChars_14 : decode cJ5_getChars 14 = .ok (.getstatic 44, 3) := dk_178 0 44 (dk_at dksJ5_getChars_0 14 rfl rfl)
theorem dJ5_getChars_17 : decode cJ5_getChars 17 = .ok (.ifCond .ne 17, 3) := dk_154 0 17 (dk_at dksJ5_getChars_0 17 rfl rfl)
theorem dJ5_getChars_20 : decode cJ5_getChars 20 = .ok (.iload_n 1, 1) := dk_27 (dk_at dksJ5_getChars_0 20 rfl rfl)
theorem dJ5_getChars_21 : decode cJ5_getChars 21 = .ok (.iload 4, 2) := dk_21 4 (dk_at dksJ5_getChars_0 21 rfl rfl)
theorem dJ5_getChars_23 : decode cJ5_getChars 23 = .ok (.if_icmp .eq 11, 3) := dk_159 0 11 (dk_at dksJ5_getChars_1 0 rfl rfl)
theorem dJ5_getChars_26 : decode cJ5_getChars 26 = .ok (.new 52, 3) := dk_187 0 52 (dk_at dksJ5_getChars_1 3 rfl rfl)
theorem dJ5_getChars_29 : decode cJ5_getChars 29 = .ok (.dup, 1) := dk_89 (dk_at dksJ5_getChars_1 6 rfl rfl)
theorem dJ5_getChars_30 : decode cJ5_getChars 30 = .ok (.invokespecial 66, 3) := dk_183 0 66 (dk_at dksJ5_getChars_1 7 rfl rfl)
theorem dJ5_getChars_33 : decode cJ5_getChars 33 = .ok (.athrow, 1) := dk_191 (dk_at dksJ5_getChars_1 10 rfl rfl)
theorem dJ5_getChars_34 : decode cJ5_getChars 34 = .ok (.iload 4, 2) := dk_21 4 (dk_at dksJ5_getChars_1 11 rfl rfl)
theorem dJ5_getChars_36 : decode cJ5_getChars 36 = .ok (.ireturn, 1) := dk_172 (dk_at dksJ5_getChars_1 13 rfl rfl)
abbrev cJ5_getChars_2 : ByteArray := prog_39_method_89_code
def yJ5_getChars_2 : MethodName := ⟨RJ5, "getChars", "(II[B)I"⟩
def dkwJ5_getChars_2_5 : List UInt8 := [132, 5, 255, 21, 5, 16, 45, 184, 0, 111, 21, 5, 172]
abbrev dktJ5_getChars_2_5 : List UInt8 := dkwJ5_getChars_2_5 ++ []
def dkwJ5_getChars_2_4 : List UInt8 := [162, 0, 18, 44, 132, 5, 255, 21, 5, 178, 1, 151, 26, 116, 51, 184, 0, 111, 21, 6, 153, 0, 14, 44]
abbrev dktJ5_getChars_2_4 : List UInt8 := dkwJ5_getChars_2_4 ++ dktJ5_getChars_2_5
def dkwJ5_getChars_2_3 : List UInt8 := [184, 0, 111, 167, 255, 205, 44, 132, 5, 255, 21, 5, 178, 1, 147, 26, 116, 51, 184, 0, 111, 26, 16, 247]
abbrev dktJ5_getChars_2_3 : List UInt8 := dkwJ5_getChars_2_3 ++ dktJ5_getChars_2_4
def dkwJ5_getChars_2_2 : List UInt8 := [21, 5, 178, 1, 147, 21, 4, 51, 184, 0, 111, 44, 132, 5, 255, 21, 5, 178, 1, 151, 21, 4, 51]
abbrev dktJ5_getChars_2_2 : List UInt8 := dkwJ5_getChars_2_2 ++ dktJ5_getChars_2_3
def dkwJ5_getChars_2_1 : List UInt8 := [16, 156, 163, 0, 51, 26, 16, 100, 108, 62, 29, 16, 100, 104, 26, 100, 54, 4, 29, 59, 44, 132, 5, 255]
abbrev dktJ5_getChars_2_1 : List UInt8 := dkwJ5_getChars_2_1 ++ dktJ5_getChars_2_2
def dkwJ5_getChars_2_0 : List UInt8 := [27, 54, 5, 26, 156, 0, 7, 4, 167, 0, 4, 3, 54, 6, 21, 6, 154, 0, 6, 26, 116, 59, 26]
abbrev dktJ5_getChars_2_0 : List UInt8 := dkwJ5_getChars_2_0 ++ dktJ5_getChars_2_1
theorem dksJ5_getChars_2_0 : cJ5_getChars_2.data.toList.drop 0 = dktJ5_getChars_2_0 := by decide +kernel
theorem dksJ5_getChars_2_1 : cJ5_getChars_2.data.toList.drop 23 = dktJ5_getChars_2_1 := dk_seg dksJ5_getChars_2_0 23 rfl rfl
theorem dksJ5_getChars_2_2 : cJ5_getChars_2.data.toList.drop 47 = dktJ5_getChars_2_2 := dk_seg dksJ5_getChars_2_1 24 rfl rfl
theorem dksJ5_getChars_2_3 : cJ5_getChars_2.data.toList.drop 70 = dktJ5_getChars_2_3 := dk_seg dksJ5_getChars_2_2 23 rfl rfl
theorem dksJ5_getChars_2_4 : cJ5_getChars_2.data.toList.drop 94 = dktJ5_getChars_2_4 := dk_seg dksJ5_getChars_2_3 24 rfl rfl
theorem dksJ5_getChars_2_5 : cJ5_getChars_2.data.toList.drop 118 = dktJ5_getChars_2_5 := dk_seg dksJ5_getChars_2_4 24 rfl rfl
theorem dJ5_getChars_2_0 : decode cJ5_getChars_2 0 = .ok (.iload_n 1, 1) := dk_27 (dk_at dksJ5_getChars_2_0 0 rfl rfl)
theorem dJ5_getChars_2_1 : decode cJ5_getChars_2 1 = .ok (.istore 5, 2) := dk_54 5 (dk_at dksJ5_getChars_2_0 1 rfl rfl)
theorem dJ5_getChars_2_3 : decode cJ5_getChars_2 3 = .ok (.iload_n 0, 1) := dk_26 (dk_at dksJ5_getChars_2_0 3 rfl rfl)
theorem dJ5_getChars_2_4 : decode cJ5_getChars_2 4 = .ok (.ifCond .ge 7, 3) := dk_156 0 7 (dk_at dksJ5_getChars_2_0 4 rfl rfl)
theorem dJ5_getChars_2_7 : decode cJ5_getChars_2 7 = .ok (.iconst 1, 1) := dk_4 (dk_at dksJ5_getChars_2_0 7 rfl rfl)
theorem dJ5_getChars_2_8 : decode cJ5_getChars_2 8 = .ok (.goto 4, 3) := dk_167 0 4 (dk_at dksJ5_getChars_2_0 8 rfl rfl)
theorem dJ5_getChars_2_11 : decode cJ5_getChars_2 11 = .ok (.iconst 0, 1) := dk_3 (dk_at dksJ5_getChars_2_0 11 rfl rfl)
theorem dJ5_getChars_2_12 : decode cJ5_getChars_2 12 = .ok (.istore 6, 2) := dk_54 6 (dk_at dksJ5_getChars_2_0 12 rfl rfl)
theorem dJ5_getChars_2_14 : decode cJ5_getChars_2 14 = .ok (.iload 6, 2) := dk_21 6 (dk_at dksJ5_getChars_2_0 14 rfl rfl)
theorem dJ5_getChars_2_16 : decode cJ5_getChars_2 16 = .ok (.ifCond .ne 6, 3) := dk_154 0 6 (dk_at dksJ5_getChars_2_0 16 rfl rfl)
theorem dJ5_getChars_2_19 : decode cJ5_getChars_2 19 = .ok (.iload_n 0, 1) := dk_26 (dk_at dksJ5_getChars_2_0 19 rfl rfl)
theorem dJ5_getChars_2_20 : decode cJ5_getChars_2 20 = .ok (.ineg, 1) := dk_116 (dk_at dksJ5_getChars_2_0 20 rfl rfl)
theorem dJ5_getChars_2_21 : decode cJ5_getChars_2 21 = .ok (.istore_n 0, 1) := dk_59 (dk_at dksJ5_getChars_2_0 21 rfl rfl)
theorem dJ5_getChars_2_22 : decode cJ5_getChars_2 22 = .ok (.iload_n 0, 1) := dk_26 (dk_at dksJ5_getChars_2_0 22 rfl rfl)
theorem dJ5_getChars_2_23 : decode cJ5_getChars_2 23 = .ok (.bipush (-100), 2) := dk_16 156 (dk_at dksJ5_getChars_2_1 0 rfl rfl)
theorem dJ5_getChars_2_25 : decode cJ5_getChars_2 25 = .ok (.if_icmp .gt 51, 3) := dk_163 0 51 (dk_at dksJ5_getChars_2_1 2 rfl rfl)
theorem dJ5_getChars_2_28 : decode cJ5_getChars_2 28 = .ok (.iload_n 0, 1) := dk_26 (dk_at dksJ5_getChars_2_1 5 rfl rfl)
theorem dJ5_getChars_2_29 : decode cJ5_getChars_2 29 = .ok (.bipush 100, 2) := dk_16 100 (dk_at dksJ5_getChars_2_1 6 rfl rfl)
theorem dJ5_getChars_2_31 : decode cJ5_getChars_2 31 = .ok (.idiv, 1) := dk_108 (dk_at dksJ5_getChars_2_1 8 rfl rfl)
theorem dJ5_getChars_2_32 : decode cJ5_getChars_2 32 = .ok (.istore_n 3, 1) := dk_62 (dk_at dksJ5_getChars_2_1 9 rfl rfl)
theorem dJ5_getChars_2_33 : decode cJ5_getChars_2 33 = .ok (.iload_n 3, 1) := dk_29 (dk_at dksJ5_getChars_2_1 10 rfl rfl)
theorem dJ5_getChars_2_34 : decode cJ5_getChars_2 34 = .ok (.bipush 100, 2) := dk_16 100 (dk_at dksJ5_getChars_2_1 11 rfl rfl)
theorem dJ5_getChars_2_36 : decode cJ5_getChars_2 36 = .ok (.imul, 1) := dk_104 (dk_at dksJ5_getChars_2_1 13 rfl rfl)
theorem dJ5_getChars_2_37 : decode cJ5_getChars_2 37 = .ok (.iload_n 0, 1) := dk_26 (dk_at dksJ5_getChars_2_1 14 rfl rfl)
theorem dJ5_getChars_2_38 : decode cJ5_getChars_2 38 = .ok (.isub, 1) := dk_100 (dk_at dksJ5_getChars_2_1 15 rfl rfl)
theorem dJ5_getChars_2_39 : decode cJ5_getChars_2 39 = .ok (.istore 4, 2) := dk_54 4 (dk_at dksJ5_getChars_2_1 16 rfl rfl)
theorem dJ5_getChars_2_41 : decode cJ5_getChars_2 41 = .ok (.iload_n 3, 1) := dk_29 (dk_at dksJ5_getChars_2_1 18 rfl rfl)
theorem dJ5_getChars_2_42 : decode cJ5_getChars_2 42 = .ok (.istore_n 0, 1) := dk_59 (dk_at dksJ5_getChars_2_1 19 rfl rfl)
theorem dJ5_getChars_2_43 : decode cJ5_getChars_2 43 = .ok (.aload_n 2, 1) := dk_44 (dk_at dksJ5_getChars_2_1 20 rfl rfl)
theorem dJ5_getChars_2_44 : decode cJ5_getChars_2 44 = .ok (.iinc 5 (-1), 3) := dk_132 5 255 (dk_at dksJ5_getChars_2_1 21 rfl rfl)
theorem dJ5_getChars_2_47 : decode cJ5_getChars_2 47 = .ok (.iload 5, 2) := dk_21 5 (dk_at dksJ5_getChars_2_2 0 rfl rfl)
theorem dJ5_getChars_2_49 : decode cJ5_getChars_2 49 = .ok (.getstatic 403, 3) := dk_178 1 147 (dk_at dksJ5_getChars_2_2 2 rfl rfl)
theorem dJ5_getChars_2_52 : decode cJ5_getChars_2 52 = .ok (.iload 4, 2) := dk_21 4 (dk_at dksJ5_getChars_2_2 5 rfl rfl)
theorem dJ5_getChars_2_54 : decode cJ5_getChars_2 54 = .ok (.baload, 1) := dk_51 (dk_at dksJ5_getChars_2_2 7 rfl rfl)
theorem dJ5_getChars_2_55 : decode cJ5_getChars_2 55 = .ok (.invokestatic 111, 3) := dk_184 0 111 (dk_at dksJ5_getChars_2_2 8 rfl rfl)
theorem dJ5_getChars_2_58 : decode cJ5_getChars_2 58 = .ok (.aload_n 2, 1) := dk_44 (dk_at dksJ5_getChars_2_2 11 rfl rfl)
theorem dJ5_getChars_2_59 : decode cJ5_getChars_2 59 = .ok (.iinc 5 (-1), 3) := dk_132 5 255 (dk_at dksJ5_getChars_2_2 12 rfl rfl)
theorem dJ5_getChars_2_62 : decode cJ5_getChars_2 62 = .ok (.iload 5, 2) := dk_21 5 (dk_at dksJ5_getChars_2_2 15 rfl rfl)
theorem dJ5_getChars_2_64 : decode cJ5_getChars_2 64 = .ok (.getstatic 407, 3) := dk_178 1 151 (dk_at dksJ5_getChars_2_2 17 rfl rfl)
theorem dJ5_getChars_2_67 : decode cJ5_getChars_2 67 = .ok (.iload 4, 2) := dk_21 4 (dk_at dksJ5_getChars_2_2 20 rfl rfl)
theorem dJ5_getChars_2_69 : decode cJ5_getChars_2 69 = .ok (.baload, 1) := dk_51 (dk_at dksJ5_getChars_2_2 22 rfl rfl)
theorem dJ5_getChars_2_70 : decode cJ5_getChars_2 70 = .ok (.invokestatic 111, 3) := dk_184 0 111 (dk_at dksJ5_getChars_2_3 0 rfl rfl)
theorem dJ5_getChars_2_73 : decode cJ5_getChars_2 73 = .ok (.goto (-51), 3) := dk_167 255 205 (dk_at dksJ5_getChars_2_3 3 rfl rfl)
theorem dJ5_getChars_2_76 : decode cJ5_getChars_2 76 = .ok (.aload_n 2, 1) := dk_44 (dk_at dksJ5_getChars_2_3 6 rfl rfl)
theorem dJ5_getChars_2_77 : decode cJ5_getChars_2 77 = .ok (.iinc 5 (-1), 3) := dk_132 5 255 (dk_at dksJ5_getChars_2_3 7 rfl rfl)
theorem dJ5_getChars_2_80 : decode cJ5_getChars_2 80 = .ok (.iload 5, 2) := dk_21 5 (dk_at dksJ5_getChars_2_3 10 rfl rfl)
theorem dJ5_getChars_2_82 : decode cJ5_getChars_2 82 = .ok (.getstatic 403, 3) := dk_178 1 147 (dk_at dksJ5_getChars_2_3 12 rfl rfl)
theorem dJ5_getChars_2_85 : decode cJ5_getChars_2 85 = .ok (.iload_n 0, 1) := dk_26 (dk_at dksJ5_getChars_2_3 15 rfl rfl)
theorem dJ5_getChars_2_86 : decode cJ5_getChars_2 86 = .ok (.ineg, 1) := dk_116 (dk_at dksJ5_getChars_2_3 16 rfl rfl)
theorem dJ5_getChars_2_87 : decode cJ5_getChars_2 87 = .ok (.baload, 1) := dk_51 (dk_at dksJ5_getChars_2_3 17 rfl rfl)
theorem dJ5_getChars_2_88 : decode cJ5_getChars_2 88 = .ok (.invokestatic 111, 3) := dk_184 0 111 (dk_at dksJ5_getChars_2_3 18 rfl rfl)
theorem dJ5_getChars_2_91 : decode cJ5_getChars_2 91 = .ok (.iload_n 0, 1) := dk_26 (dk_at dksJ5_getChars_2_3 21 rfl rfl)
theorem dJ5_getChars_2_92 : decode cJ5_getChars_2 92 = .ok (.bipush (-9), 2) := dk_16 247 (dk_at dksJ5_getChars_2_3 22 rfl rfl)
theorem dJ5_getChars_2_94 : decode cJ5_getChars_2 94 = .ok (.if_icmp .ge 18, 3) := dk_162 0 18 (dk_at dksJ5_getChars_2_4 0 rfl rfl)
theorem dJ5_getChars_2_97 : decode cJ5_getChars_2 97 = .ok (.aload_n 2, 1) := dk_44 (dk_at dksJ5_getChars_2_4 3 rfl rfl)
theorem dJ5_getChars_2_98 : decode cJ5_getChars_2 98 = .ok (.iinc 5 (-1), 3) := dk_132 5 255 (dk_at dksJ5_getChars_2_4 4 rfl rfl)
theorem dJ5_getChars_2_101 : decode cJ5_getChars_2 101 = .ok (.iload 5, 2) := dk_21 5 (dk_at dksJ5_getChars_2_4 7 rfl rfl)
theorem dJ5_getChars_2_103 : decode cJ5_getChars_2 103 = .ok (.getstatic 407, 3) := dk_178 1 151 (dk_at dksJ5_getChars_2_4 9 rfl rfl)
theorem dJ5_getChars_2_106 : decode cJ5_getChars_2 106 = .ok (.iload_n 0, 1) := dk_26 (dk_at dksJ5_getChars_2_4 12 rfl rfl)
theorem dJ5_getChars_2_107 : decode cJ5_getChars_2 107 = .ok (.ineg, 1) := dk_116 (dk_at dksJ5_getChars_2_4 13 rfl rfl)
theorem dJ5_getChars_2_108 : decode cJ5_getChars_2 108 = .ok (.baload, 1) := dk_51 (dk_at dksJ5_getChars_2_4 14 rfl rfl)
theorem dJ5_getChars_2_109 : decode cJ5_getChars_2 109 = .ok (.invokestatic 111, 3) := dk_184 0 111 (dk_at dksJ5_getChars_2_4 15 rfl rfl)
theorem dJ5_getChars_2_112 : decode cJ5_getChars_2 112 = .ok (.iload 6, 2) := dk_21 6 (dk_at dksJ5_getChars_2_4 18 rfl rfl)
theorem dJ5_getChars_2_114 : decode cJ5_getChars_2 114 = .ok (.ifCond .eq 14, 3) := dk_153 0 14 (dk_at dksJ5_getChars_2_4 20 rfl rfl)
theorem dJ5_getChars_2_117 : decode cJ5_getChars_2 117 = .ok (.aload_n 2, 1) := dk_44 (dk_at dksJ5_getChars_2_4 23 rfl rfl)
theorem dJ5_getChars_2_118 : decode cJ5_getChars_2 118 = .ok (.iinc 5 (-1), 3) := dk_132 5 255 (dk_at dksJ5_getChars_2_5 0 rfl rfl)
theorem dJ5_getChars_2_121 : decode cJ5_getChars_2 121 = .ok (.iload 5, 2) := dk_21 5 (dk_at dksJ5_getChars_2_5 3 rfl rfl)
theorem dJ5_getChars_2_123 : decode cJ5_getChars_2 123 = .ok (.bipush 45, 2) := dk_16 45 (dk_at dksJ5_getChars_2_5 5 rfl rfl)
theorem dJ5_getChars_2_125 : decode cJ5_getChars_2 125 = .ok (.invokestatic 111, 3) := dk_184 0 111 (dk_at dksJ5_getChars_2_5 7 rfl rfl)
theorem dJ5_getChars_2_128 : decode cJ5_getChars_2 128 = .ok (.iload 5, 2) := dk_21 5 (dk_at dksJ5_getChars_2_5 10 rfl rfl)
theorem dJ5_getChars_2_130 : decode cJ5_getChars_2 130 = .ok (.ireturn, 1) := dk_172 (dk_at dksJ5_getChars_2_5 12 rfl rfl)
abbrev cJ5_compress : ByteArray := prog_39_method_17_code
def yJ5_compress : MethodName := ⟨RJ5, "compress", "([BII)[B"⟩
def dkwJ5_compress_2 : List UInt8 := [25, 5, 3, 45, 3, 28, 184, 0, 123, 28, 159, 0, 6, 25, 5, 176, 45, 176]
abbrev dktJ5_compress_2 : List UInt8 := dkwJ5_compress_2 ++ []
def dkwJ5_compress_1 : List UInt8 := [27, 28, 96, 184, 0, 11, 184, 0, 126, 58, 5, 25, 5, 21, 4, 184, 0, 71, 17, 0, 255, 163, 0, 16]
abbrev dktJ5_compress_1 : List UInt8 := dkwJ5_compress_1 ++ dktJ5_compress_2
def dkwJ5_compress_0 : List UInt8 := [28, 188, 8, 78, 42, 27, 45, 3, 28, 184, 0, 123, 54, 4, 21, 4, 28, 159, 0, 47, 42, 27, 4, 120]
abbrev dktJ5_compress_0 : List UInt8 := dkwJ5_compress_0 ++ dktJ5_compress_1
theorem dksJ5_compress_0 : cJ5_compress.data.toList.drop 0 = dktJ5_compress_0 := by decide +kernel
theorem dksJ5_compress_1 : cJ5_compress.data.toList.drop 24 = dktJ5_compress_1 := dk_seg dksJ5_compress_0 24 rfl rfl
theorem dksJ5_compress_2 : cJ5_compress.data.toList.drop 48 = dktJ5_compress_2 := dk_seg dksJ5_compress_1 24 rfl rfl
theorem dJ5_compress_0 : decode cJ5_compress 0 = .ok (.iload_n 2, 1) := dk_28 (dk_at dksJ5_compress_0 0 rfl rfl)
theorem dJ5_compress_1 : decode cJ5_compress 1 = .ok (.newarray .byte, 2) := dk_188_8 (dk_at dksJ5_compress_0 1 rfl rfl)
theorem dJ5_compress_3 : decode cJ5_compress 3 = .ok (.astore_n 3, 1) := dk_78 (dk_at dksJ5_compress_0 3 rfl rfl)
theorem dJ5_compress_4 : decode cJ5_compress 4 = .ok (.aload_n 0, 1) := dk_42 (dk_at dksJ5_compress_0 4 rfl rfl)
theorem dJ5_compress_5 : decode cJ5_compress 5 = .ok (.iload_n 1, 1) := dk_27 (dk_at dksJ5_compress_0 5 rfl rfl)
theorem dJ5_compress_6 : decode cJ5_compress 6 = .ok (.aload_n 3, 1) := dk_45 (dk_at dksJ5_compress_0 6 rfl rfl)
theorem dJ5_compress_7 : decode cJ5_compress 7 = .ok (.iconst 0, 1) := dk_3 (dk_at dksJ5_compress_0 7 rfl rfl)
theorem dJ5_compress_8 : decode cJ5_compress 8 = .ok (.iload_n 2, 1) := dk_28 (dk_at dksJ5_compress_0 8 rfl rfl)
theorem dJ5_compress_9 : decode cJ5_compress 9 = .ok (.invokestatic 123, 3) := dk_184 0 123 (dk_at dksJ5_compress_0 9 rfl rfl)
theorem dJ5_compress_12 : decode cJ5_compress 12 = .ok (.istore 4, 2) := dk_54 4 (dk_at dksJ5_compress_0 12 rfl rfl)
theorem dJ5_compress_14 : decode cJ5_compress 14 = .ok (.iload 4, 2) := dk_21 4 (dk_at dksJ5_compress_0 14 rfl rfl)
theorem dJ5_compress_16 : decode cJ5_compress 16 = .ok (.iload_n 2, 1) := dk_28 (dk_at dksJ5_compress_0 16 rfl rfl)
theorem dJ5_compress_17 : decode cJ5_compress 17 = .ok (.if_icmp .eq 47, 3) := dk_159 0 47 (dk_at dksJ5_compress_0 17 rfl rfl)
theorem dJ5_compress_20 : decode cJ5_compress 20 = .ok (.aload_n 0, 1) := dk_42 (dk_at dksJ5_compress_0 20 rfl rfl)
theorem dJ5_compress_21 : decode cJ5_compress 21 = .ok (.iload_n 1, 1) := dk_27 (dk_at dksJ5_compress_0 21 rfl rfl)
theorem dJ5_compress_22 : decode cJ5_compress 22 = .ok (.iconst 1, 1) := dk_4 (dk_at dksJ5_compress_0 22 rfl rfl)
theorem dJ5_compress_23 : decode cJ5_compress 23 = .ok (.ishl, 1) := dk_120 (dk_at dksJ5_compress_0 23 rfl rfl)
theorem dJ5_compress_24 : decode cJ5_compress 24 = .ok (.iload_n 1, 1) := dk_27 (dk_at dksJ5_compress_1 0 rfl rfl)
theorem dJ5_compress_25 : decode cJ5_compress 25 = .ok (.iload_n 2, 1) := dk_28 (dk_at dksJ5_compress_1 1 rfl rfl)
theorem dJ5_compress_26 : decode cJ5_compress 26 = .ok (.iadd, 1) := dk_96 (dk_at dksJ5_compress_1 2 rfl rfl)
theorem dJ5_compress_27 : decode cJ5_compress 27 = .ok (.invokestatic 11, 3) := dk_184 0 11 (dk_at dksJ5_compress_1 3 rfl rfl)
theorem dJ5_compress_30 : decode cJ5_compress 30 = .ok (.invokestatic 126, 3) := dk_184 0 126 (dk_at dksJ5_compress_1 6 rfl rfl)
theorem dJ5_compress_33 : decode cJ5_compress 33 = .ok (.astore 5, 2) := dk_58 5 (dk_at dksJ5_compress_1 9 rfl rfl)
theorem dJ5_compress_35 : decode cJ5_compress 35 = .ok (.aload 5, 2) := dk_25 5 (dk_at dksJ5_compress_1 11 rfl rfl)
theorem dJ5_compress_37 : decode cJ5_compress 37 = .ok (.iload 4, 2) := dk_21 4 (dk_at dksJ5_compress_1 13 rfl rfl)
theorem dJ5_compress_39 : decode cJ5_compress 39 = .ok (.invokestatic 71, 3) := dk_184 0 71 (dk_at dksJ5_compress_1 15 rfl rfl)
theorem dJ5_compress_42 : decode cJ5_compress 42 = .ok (.sipush 255, 3) := dk_17 0 255 (dk_at dksJ5_compress_1 18 rfl rfl)
theorem dJ5_compress_45 : decode cJ5_compress 45 = .ok (.if_icmp .gt 16, 3) := dk_163 0 16 (dk_at dksJ5_compress_1 21 rfl rfl)
theorem dJ5_compress_48 : decode cJ5_compress 48 = .ok (.aload 5, 2) := dk_25 5 (dk_at dksJ5_compress_2 0 rfl rfl)
theorem dJ5_compress_50 : decode cJ5_compress 50 = .ok (.iconst 0, 1) := dk_3 (dk_at dksJ5_compress_2 2 rfl rfl)
theorem dJ5_compress_51 : decode cJ5_compress 51 = .ok (.aload_n 3, 1) := dk_45 (dk_at dksJ5_compress_2 3 rfl rfl)
theorem dJ5_compress_52 : decode cJ5_compress 52 = .ok (.iconst 0, 1) := dk_3 (dk_at dksJ5_compress_2 4 rfl rfl)
theorem dJ5_compress_53 : decode cJ5_compress 53 = .ok (.iload_n 2, 1) := dk_28 (dk_at dksJ5_compress_2 5 rfl rfl)
theorem dJ5_compress_54 : decode cJ5_compress 54 = .ok (.invokestatic 123, 3) := dk_184 0 123 (dk_at dksJ5_compress_2 6 rfl rfl)
theorem dJ5_compress_57 : decode cJ5_compress 57 = .ok (.iload_n 2, 1) := dk_28 (dk_at dksJ5_compress_2 9 rfl rfl)
theorem dJ5_compress_58 : decode cJ5_compress 58 = .ok (.if_icmp .eq 6, 3) := dk_159 0 6 (dk_at dksJ5_compress_2 10 rfl rfl)
theorem dJ5_compress_61 : decode cJ5_compress 61 = .ok (.aload 5, 2) := dk_25 5 (dk_at dksJ5_compress_2 13 rfl rfl)
theorem dJ5_compress_63 : decode cJ5_compress 63 = .ok (.areturn, 1) := dk_176 (dk_at dksJ5_compress_2 15 rfl rfl)
theorem dJ5_compress_64 : decode cJ5_compress 64 = .ok (.aload_n 3, 1) := dk_45 (dk_at dksJ5_compress_2 16 rfl rfl)
theorem dJ5_compress_65 : decode cJ5_compress 65 = .ok (.areturn, 1) := dk_176 (dk_at dksJ5_compress_2 17 rfl rfl)
abbrev cJ5_compress_2 : ByteArray := prog_39_method_22_code
def yJ5_compress_2 : MethodName := ⟨RJ5, "compress", "([BI[BII)I"⟩
def dkwJ5_compress_2_2 : List UInt8 := [132, 5, 1, 167, 255, 216, 21, 4, 172]
abbrev dktJ5_compress_2_2 : List UInt8 := dkwJ5_compress_2_2 ++ []
def dkwJ5_compress_2_1 : List UInt8 := [21, 6, 17, 0, 255, 164, 0, 6, 21, 5, 172, 44, 29, 21, 6, 145, 84, 132, 1, 1, 132, 3, 1]
abbrev dktJ5_compress_2_1 : List UInt8 := dkwJ5_compress_2_1 ++ dktJ5_compress_2_2
def dkwJ5_compress_2_0 : List UInt8 := [27, 21, 4, 42, 184, 0, 173, 3, 54, 5, 21, 5, 21, 4, 162, 0, 39, 42, 27, 184, 0, 71, 54, 6]
abbrev dktJ5_compress_2_0 : List UInt8 := dkwJ5_compress_2_0 ++ dktJ5_compress_2_1
theorem dksJ5_compress_2_0 : cJ5_compress_2.data.toList.drop 0 = dktJ5_compress_2_0 := by decide +kernel
theorem dksJ5_compress_2_1 : cJ5_compress_2.data.toList.drop 24 = dktJ5_compress_2_1 := dk_seg dksJ5_compress_2_0 24 rfl rfl
theorem dksJ5_compress_2_2 : cJ5_compress_2.data.toList.drop 47 = dktJ5_compress_2_2 := dk_seg dksJ5_compress_2_1 23 rfl rfl
theorem dJ5_compress_2_0 : decode cJ5_compress_2 0 = .ok (.iload_n 1, 1) := dk_27 (dk_at dksJ5_compress_2_0 0 rfl rfl)
theorem dJ5_compress_2_1 : decode cJ5_compress_2 1 = .ok (.iload 4, 2) := dk_21 4 (dk_at dksJ5_compress_2_0 1 rfl rfl)
theorem dJ5_compress_2_3 : decode cJ5_compress_2 3 = .ok (.aload_n 0, 1) := dk_42 (dk_at dksJ5_compress_2_0 3 rfl rfl)
theorem dJ5_compress_2_4 : decode cJ5_compress_2 4 = .ok (.invokestatic 173, 3) := dk_184 0 173 (dk_at dksJ5_compress_2_0 4 rfl rfl)
theorem dJ5_compress_2_7 : decode cJ5_compress_2 7 = .ok (.iconst 0, 1) := dk_3 (dk_at dksJ5_compress_2_0 7 rfl rfl)
theorem dJ5_compress_2_8 : decode cJ5_compress_2 8 = .ok (.istore 5, 2) := dk_54 5 (dk_at dksJ5_compress_2_0 8 rfl rfl)
theorem dJ5_compress_2_10 : decode cJ5_compress_2 10 = .ok (.iload 5, 2) := dk_21 5 (dk_at dksJ5_compress_2_0 10 rfl rfl)
theorem dJ5_compress_2_12 : decode cJ5_compress_2 12 = .ok (.iload 4, 2) := dk_21 4 (dk_at dksJ5_compress_2_0 12 rfl rfl)
theorem dJ5_compress_2_14 : decode cJ5_compress_2 14 = .ok (.if_icmp .ge 39, 3) := dk_162 0 39 (dk_at dksJ5_compress_2_0 14 rfl rfl)
theorem dJ5_compress_2_17 : decode cJ5_compress_2 17 = .ok (.aload_n 0, 1) := dk_42 (dk_at dksJ5_compress_2_0 17 rfl rfl)
theorem dJ5_compress_2_18 : decode cJ5_compress_2 18 = .ok (.iload_n 1, 1) := dk_27 (dk_at dksJ5_compress_2_0 18 rfl rfl)
theorem dJ5_compress_2_19 : decode cJ5_compress_2 19 = .ok (.invokestatic 71, 3) := dk_184 0 71 (dk_at dksJ5_compress_2_0 19 rfl rfl)
theorem dJ5_compress_2_22 : decode cJ5_compress_2 22 = .ok (.istore 6, 2) := dk_54 6 (dk_at dksJ5_compress_2_0 22 rfl rfl)
theorem dJ5_compress_2_24 : decode cJ5_compress_2 24 = .ok (.iload 6, 2) := dk_21 6 (dk_at dksJ5_compress_2_1 0 rfl rfl)
theorem dJ5_compress_2_26 : decode cJ5_compress_2 26 = .ok (.sipush 255, 3) := dk_17 0 255 (dk_at dksJ5_compress_2_1 2 rfl rfl)
theorem dJ5_compress_2_29 : decode cJ5_compress_2 29 = .ok (.if_icmp .le 6, 3) := dk_164 0 6 (dk_at dksJ5_compress_2_1 5 rfl rfl)
theorem dJ5_compress_2_32 : decode cJ5_compress_2 32 = .ok (.iload 5, 2) := dk_21 5 (dk_at dksJ5_compress_2_1 8 rfl rfl)
theorem dJ5_compress_2_34 : decode cJ5_compress_2 34 = .ok (.ireturn, 1) := dk_172 (dk_at dksJ5_compress_2_1 10 rfl rfl)
theorem dJ5_compress_2_35 : decode cJ5_compress_2 35 = .ok (.aload_n 2, 1) := dk_44 (dk_at dksJ5_compress_2_1 11 rfl rfl)
theorem dJ5_compress_2_36 : decode cJ5_compress_2 36 = .ok (.iload_n 3, 1) := dk_29 (dk_at dksJ5_compress_2_1 12 rfl rfl)
theorem dJ5_compress_2_37 : decode cJ5_compress_2 37 = .ok (.iload 6, 2) := dk_21 6 (dk_at dksJ5_compress_2_1 13 rfl rfl)
theorem dJ5_compress_2_39 : decode cJ5_compress_2 39 = .ok (.i2b, 1) := dk_145 (dk_at dksJ5_compress_2_1 15 rfl rfl)
theorem dJ5_compress_2_40 : decode cJ5_compress_2 40 = .ok (.bastore, 1) := dk_84 (dk_at dksJ5_compress_2_1 16 rfl rfl)
theorem dJ5_compress_2_41 : decode cJ5_compress_2 41 = .ok (.iinc 1 1, 3) := dk_132 1 1 (dk_at dksJ5_compress_2_1 17 rfl rfl)
theorem dJ5_compress_2_44 : decode cJ5_compress_2 44 = .ok (.iinc 3 1, 3) := dk_132 3 1 (dk_at dksJ5_compress_2_1 20 rfl rfl)
theorem dJ5_compress_2_47 : decode cJ5_compress_2 47 = .ok (.iinc 5 1, 3) := dk_132 5 1 (dk_at dksJ5_compress_2_2 0 rfl rfl)
theorem dJ5_compress_2_50 : decode cJ5_compress_2 50 = .ok (.goto (-40), 3) := dk_167 255 216 (dk_at dksJ5_compress_2_2 3 rfl rfl)
theorem dJ5_compress_2_53 : decode cJ5_compress_2 53 = .ok (.iload 4, 2) := dk_21 4 (dk_at dksJ5_compress_2_2 6 rfl rfl)
theorem dJ5_compress_2_55 : decode cJ5_compress_2 55 = .ok (.ireturn, 1) := dk_172 (dk_at dksJ5_compress_2_2 8 rfl rfl)
abbrev cJ5_getChar : ByteArray := prog_39_method_5_code
def yJ5_getChar : MethodName := ⟨RJ5, "getChar", "([BI)C"⟩
def dkwJ5_getChar_2 : List UInt8 := [51, 17, 0, 255, 126, 178, 0, 63, 120, 128, 146, 172]
abbrev dktJ5_getChar_2 : List UInt8 := dkwJ5_getChar_2 ++ []
def dkwJ5_getChar_1 : List UInt8 := [183, 0, 56, 191, 27, 4, 120, 60, 42, 27, 132, 1, 1, 51, 17, 0, 255, 126, 178, 0, 59, 120, 42, 27]
abbrev dktJ5_getChar_1 : List UInt8 := dkwJ5_getChar_1 ++ dktJ5_getChar_2
def dkwJ5_getChar_0 : List UInt8 := [178, 0, 44, 154, 0, 25, 27, 155, 0, 11, 27, 42, 184, 0, 48, 161, 0, 13, 187, 0, 52, 89, 18, 54]
abbrev dktJ5_getChar_0 : List UInt8 := dkwJ5_getChar_0 ++ dktJ5_getChar_1
theorem dksJ5_getChar_0 : cJ5_getChar.data.toList.drop 0 = dktJ5_getChar_0 := by decide +kernel
theorem dksJ5_getChar_1 : cJ5_getChar.data.toList.drop 24 = dktJ5_getChar_1 := dk_seg dksJ5_getChar_0 24 rfl rfl
theorem dksJ5_getChar_2 : cJ5_getChar.data.toList.drop 48 = dktJ5_getChar_2 := dk_seg dksJ5_getChar_1 24 rfl rfl
theorem dJ5_getChar_0 : decode cJ5_getChar 0 = .ok (.getstatic 44, 3) := dk_178 0 44 (dk_at dksJ5_getChar_0 0 rfl rfl)
theorem dJ5_getChar_3 : decode cJ5_getChar 3 = .ok (.ifCond .ne 25, 3) := dk_154 0 25 (dk_at dksJ5_getChar_0 3 rfl rfl)
theorem dJ5_getChar_6 : decode cJ5_getChar 6 = .ok (.iload_n 1, 1) := dk_27 (dk_at dksJ5_getChar_0 6 rfl rfl)
theorem dJ5_getChar_7 : decode cJ5_getChar 7 = .ok (.ifCond .lt 11, 3) := dk_155 0 11 (dk_at dksJ5_getChar_0 7 rfl rfl)
theorem dJ5_getChar_10 : decode cJ5_getChar 10 = .ok (.iload_n 1, 1) := dk_27 (dk_at dksJ5_getChar_0 10 rfl rfl)
theorem dJ5_getChar_11 : decode cJ5_getChar 11 = .ok (.aload_n 0, 1) := dk_42 (dk_at dksJ5_getChar_0 11 rfl rfl)
theorem dJ5_getChar_12 : decode cJ5_getChar 12 = .ok (.invokestatic 48, 3) := dk_184 0 48 (dk_at dksJ5_getChar_0 12 rfl rfl)
theorem dJ5_getChar_15 : decode cJ5_getChar 15 = .ok (.if_icmp .lt 13, 3) := dk_161 0 13 (dk_at dksJ5_getChar_0 15 rfl rfl)
theorem dJ5_getChar_18 : decode cJ5_getChar 18 = .ok (.new 52, 3) := dk_187 0 52 (dk_at dksJ5_getChar_0 18 rfl rfl)
theorem dJ5_getChar_21 : decode cJ5_getChar 21 = .ok (.dup, 1) := dk_89 (dk_at dksJ5_getChar_0 21 rfl rfl)
theorem dJ5_getChar_22 : decode cJ5_getChar 22 = .ok (.ldc 54, 2) := dk_18 54 (dk_at dksJ5_getChar_0 22 rfl rfl)
theorem dJ5_getChar_24 : decode cJ5_getChar 24 = .ok (.invokespecial 56, 3) := dk_183 0 56 (dk_at dksJ5_getChar_1 0 rfl rfl)
theorem dJ5_getChar_27 : decode cJ5_getChar 27 = .ok (.athrow, 1) := dk_191 (dk_at dksJ5_getChar_1 3 rfl rfl)
theorem dJ5_getChar_28 : decode cJ5_getChar 28 = .ok (.iload_n 1, 1) := dk_27 (dk_at dksJ5_getChar_1 4 rfl rfl)
theorem dJ5_getChar_29 : decode cJ5_getChar 29 = .ok (.iconst 1, 1) := dk_4 (dk_at dksJ5_getChar_1 5 rfl rfl)
theorem dJ5_getChar_30 : decode cJ5_getChar 30 = .ok (.ishl, 1) := dk_120 (dk_at dksJ5_getChar_1 6 rfl rfl)
theorem dJ5_getChar_31 : decode cJ5_getChar 31 = .ok (.istore_n 1, 1) := dk_60 (dk_at dksJ5_getChar_1 7 rfl rfl)
theorem dJ5_getChar_32 : decode cJ5_getChar 32 = .ok (.aload_n 0, 1) := dk_42 (dk_at dksJ5_getChar_1 8 rfl rfl)
theorem dJ5_getChar_33 : decode cJ5_getChar 33 = .ok (.iload_n 1, 1) := dk_27 (dk_at dksJ5_getChar_1 9 rfl rfl)
theorem dJ5_getChar_34 : decode cJ5_getChar 34 = .ok (.iinc 1 1, 3) := dk_132 1 1 (dk_at dksJ5_getChar_1 10 rfl rfl)
theorem dJ5_getChar_37 : decode cJ5_getChar 37 = .ok (.baload, 1) := dk_51 (dk_at dksJ5_getChar_1 13 rfl rfl)
theorem dJ5_getChar_38 : decode cJ5_getChar 38 = .ok (.sipush 255, 3) := dk_17 0 255 (dk_at dksJ5_getChar_1 14 rfl rfl)
theorem dJ5_getChar_41 : decode cJ5_getChar 41 = .ok (.iand, 1) := dk_126 (dk_at dksJ5_getChar_1 17 rfl rfl)
theorem dJ5_getChar_42 : decode cJ5_getChar 42 = .ok (.getstatic 59, 3) := dk_178 0 59 (dk_at dksJ5_getChar_1 18 rfl rfl)
theorem dJ5_getChar_45 : decode cJ5_getChar 45 = .ok (.ishl, 1) := dk_120 (dk_at dksJ5_getChar_1 21 rfl rfl)
theorem dJ5_getChar_46 : decode cJ5_getChar 46 = .ok (.aload_n 0, 1) := dk_42 (dk_at dksJ5_getChar_1 22 rfl rfl)
theorem dJ5_getChar_47 : decode cJ5_getChar 47 = .ok (.iload_n 1, 1) := dk_27 (dk_at dksJ5_getChar_1 23 rfl rfl)
theorem dJ5_getChar_48 : decode cJ5_getChar 48 = .ok (.baload, 1) := dk_51 (dk_at dksJ5_getChar_2 0 rfl rfl)
theorem dJ5_getChar_49 : decode cJ5_getChar 49 = .ok (.sipush 255, 3) := dk_17 0 255 (dk_at dksJ5_getChar_2 1 rfl rfl)
theorem dJ5_getChar_52 : decode cJ5_getChar 52 = .ok (.iand, 1) := dk_126 (dk_at dksJ5_getChar_2 4 rfl rfl)
theorem dJ5_getChar_53 : decode cJ5_getChar 53 = .ok (.getstatic 63, 3) := dk_178 0 63 (dk_at dksJ5_getChar_2 5 rfl rfl)
theorem dJ5_getChar_56 : decode cJ5_getChar 56 = .ok (.ishl, 1) := dk_120 (dk_at dksJ5_getChar_2 8 rfl rfl)
theorem dJ5_getChar_57 : decode cJ5_getChar 57 = .ok (.ior, 1) := dk_128 (dk_at dksJ5_getChar_2 9 rfl rfl)
theorem dJ5_getChar_58 : decode cJ5_getChar 58 = .ok (.i2c, 1) := dk_146 (dk_at dksJ5_getChar_2 10 rfl rfl)
theorem dJ5_getChar_59 : decode cJ5_getChar 59 = .ok (.ireturn, 1) := dk_172 (dk_at dksJ5_getChar_2 11 rfl rfl)
abbrev cJ5_coderFromArrayLen : ByteArray := prog_39_method_15_code
def yJ5_coderFromArrayLen : MethodName := ⟨RJ5, "coderFromArrayLen", "([BI)B"⟩
def dkwJ5_coderFromArrayLen_0 : List UInt8 := [27, 42, 190, 100, 16, 31, 124, 145, 172]
abbrev dktJ5_coderFromArrayLen_0 : List UInt8 := dkwJ5_coderFromArrayLen_0 ++ []
theorem dksJ5_coderFromArrayLen_0 : cJ5_coderFromArrayLen.data.toList.drop 0 = dktJ5_coderFromArrayLen_0 := by decide +kernel
theorem dJ5_coderFromArrayLen_0 : decode cJ5_coderFromArrayLen 0 = .ok (.iload_n 1, 1) := dk_27 (dk_at dksJ5_coderFromArrayLen_0 0 rfl rfl)
theorem dJ5_coderFromArrayLen_1 : decode cJ5_coderFromArrayLen 1 = .ok (.aload_n 0, 1) := dk_42 (dk_at dksJ5_coderFromArrayLen_0 1 rfl rfl)
theorem dJ5_coderFromArrayLen_2 : decode cJ5_coderFromArrayLen 2 = .ok (.arraylength, 1) := dk_190 (dk_at dksJ5_coderFromArrayLen_0 2 rfl rfl)
theorem dJ5_coderFromArrayLen_3 : decode cJ5_coderFromArrayLen 3 = .ok (.isub, 1) := dk_100 (dk_at dksJ5_coderFromArrayLen_0 3 rfl rfl)
theorem dJ5_coderFromArrayLen_4 : decode cJ5_coderFromArrayLen 4 = .ok (.bipush 31, 2) := dk_16 31 (dk_at dksJ5_coderFromArrayLen_0 4 rfl rfl)
theorem dJ5_coderFromArrayLen_6 : decode cJ5_coderFromArrayLen 6 = .ok (.iushr, 1) := dk_124 (dk_at dksJ5_coderFromArrayLen_0 6 rfl rfl)
theorem dJ5_coderFromArrayLen_7 : decode cJ5_coderFromArrayLen 7 = .ok (.i2b, 1) := dk_145 (dk_at dksJ5_coderFromArrayLen_0 7 rfl rfl)
theorem dJ5_coderFromArrayLen_8 : decode cJ5_coderFromArrayLen 8 = .ok (.ireturn, 1) := dk_172 (dk_at dksJ5_coderFromArrayLen_0 8 rfl rfl)
abbrev cJ5_fillNull : ByteArray := prog_39_method_70_code
def yJ5_fillNull : MethodName := ⟨RJ5, "fillNull", "([BII)V"⟩
def dkwJ5_fillNull_0 : List UInt8 := [42, 27, 4, 120, 28, 4, 120, 3, 184, 1, 124, 177]
abbrev dktJ5_fillNull_0 : List UInt8 := dkwJ5_fillNull_0 ++ []
theorem dksJ5_fillNull_0 : cJ5_fillNull.data.toList.drop 0 = dktJ5_fillNull_0 := by decide +kernel
theorem dJ5_fillNull_0 : decode cJ5_fillNull 0 = .ok (.aload_n 0, 1) := dk_42 (dk_at dksJ5_fillNull_0 0 rfl rfl)
theorem dJ5_fillNull_1 : decode cJ5_fillNull 1 = .ok (.iload_n 1, 1) := dk_27 (dk_at dksJ5_fillNull_0 1 rfl rfl)
theorem dJ5_fillNull_2 : decode cJ5_fillNull 2 = .ok (.iconst 1, 1) := dk_4 (dk_at dksJ5_fillNull_0 2 rfl rfl)
theorem dJ5_fillNull_3 : decode cJ5_fillNull 3 = .ok (.ishl, 1) := dk_120 (dk_at dksJ5_fillNull_0 3 rfl rfl)
theorem dJ5_fillNull_4 : decode cJ5_fillNull 4 = .ok (.iload_n 2, 1) := dk_28 (dk_at dksJ5_fillNull_0 4 rfl rfl)
theorem dJ5_fillNull_5 : decode cJ5_fillNull 5 = .ok (.iconst 1, 1) := dk_4 (dk_at dksJ5_fillNull_0 5 rfl rfl)
theorem dJ5_fillNull_6 : decode cJ5_fillNull 6 = .ok (.ishl, 1) := dk_120 (dk_at dksJ5_fillNull_0 6 rfl rfl)
theorem dJ5_fillNull_7 : decode cJ5_fillNull 7 = .ok (.iconst 0, 1) := dk_3 (dk_at dksJ5_fillNull_0 7 rfl rfl)
theorem dJ5_fillNull_8 : decode cJ5_fillNull 8 = .ok (.invokestatic 380, 3) := dk_184 1 124 (dk_at dksJ5_fillNull_0 8 rfl rfl)
theorem dJ5_fillNull_11 : decode cJ5_fillNull 11 = .ok (.return_, 1) := dk_177 (dk_at dksJ5_fillNull_0 11 rfl rfl)
abbrev cJ5_putCharSB : ByteArray := prog_39_method_71_code
def yJ5_putCharSB : MethodName := ⟨RJ5, "putCharSB", "([BII)V"⟩
def dkwJ5_putCharSB_0 : List UInt8 := [27, 42, 184, 0, 67, 42, 27, 28, 184, 0, 111, 177]
abbrev dktJ5_putCharSB_0 : List UInt8 := dkwJ5_putCharSB_0 ++ []
theorem dksJ5_putCharSB_0 : cJ5_putCharSB.data.toList.drop 0 = dktJ5_putCharSB_0 := by decide +kernel
theorem dJ5_putCharSB_0 : decode cJ5_putCharSB 0 = .ok (.iload_n 1, 1) := dk_27 (dk_at dksJ5_putCharSB_0 0 rfl rfl)
theorem dJ5_putCharSB_1 : decode cJ5_putCharSB 1 = .ok (.aload_n 0, 1) := dk_42 (dk_at dksJ5_putCharSB_0 1 rfl rfl)
theorem dJ5_putCharSB_2 : decode cJ5_putCharSB 2 = .ok (.invokestatic 67, 3) := dk_184 0 67 (dk_at dksJ5_putCharSB_0 2 rfl rfl)
theorem dJ5_putCharSB_5 : decode cJ5_putCharSB 5 = .ok (.aload_n 0, 1) := dk_42 (dk_at dksJ5_putCharSB_0 5 rfl rfl)
theorem dJ5_putCharSB_6 : decode cJ5_putCharSB 6 = .ok (.iload_n 1, 1) := dk_27 (dk_at dksJ5_putCharSB_0 6 rfl rfl)
theorem dJ5_putCharSB_7 : decode cJ5_putCharSB 7 = .ok (.iload_n 2, 1) := dk_28 (dk_at dksJ5_putCharSB_0 7 rfl rfl)
theorem dJ5_putCharSB_8 : decode cJ5_putCharSB 8 = .ok (.invokestatic 111, 3) := dk_184 0 111 (dk_at dksJ5_putCharSB_0 8 rfl rfl)
theorem dJ5_putCharSB_11 : decode cJ5_putCharSB 11 = .ok (.return_, 1) := dk_177 (dk_at dksJ5_putCharSB_0 11 rfl rfl)
abbrev cJ5_checkIndex : ByteArray := prog_39_method_91_code
def yJ5_checkIndex : MethodName := ⟨RJ5, "checkIndex", "(I[B)V"⟩
def dkwJ5_checkIndex_0 : List UInt8 := [26, 43, 184, 0, 48, 184, 1, 158, 177]
abbrev dktJ5_checkIndex_0 : List UInt8 := dkwJ5_checkIndex_0 ++ []
theorem dksJ5_checkIndex_0 : cJ5_checkIndex.data.toList.drop 0 = dktJ5_checkIndex_0 := by decide +kernel
theorem dJ5_checkIndex_0 : decode cJ5_checkIndex 0 = .ok (.iload_n 0, 1) := dk_26 (dk_at dksJ5_checkIndex_0 0 rfl rfl)
theorem dJ5_checkIndex_1 : decode cJ5_checkIndex 1 = .ok (.aload_n 1, 1) := dk_43 (dk_at dksJ5_checkIndex_0 1 rfl rfl)
theorem dJ5_checkIndex_2 : decode cJ5_checkIndex 2 = .ok (.invokestatic 48, 3) := dk_184 0 48 (dk_at dksJ5_checkIndex_0 2 rfl rfl)
theorem dJ5_checkIndex_5 : decode cJ5_checkIndex 5 = .ok (.invokestatic 414, 3) := dk_184 1 158 (dk_at dksJ5_checkIndex_0 5 rfl rfl)
theorem dJ5_checkIndex_8 : decode cJ5_checkIndex 8 = .ok (.return_, 1) := dk_177 (dk_at dksJ5_checkIndex_0 8 rfl rfl)
abbrev cJ5_charAt : ByteArray := prog_39_method_83_code
def yJ5_charAt : MethodName := ⟨RJ5, "charAt", "([BI)C"⟩
def dkwJ5_charAt_0 : List UInt8 := [27, 42, 184, 0, 67, 42, 27, 184, 0, 71, 172]
abbrev dktJ5_charAt_0 : List UInt8 := dkwJ5_charAt_0 ++ []
theorem dksJ5_charAt_0 : cJ5_charAt.data.toList.drop 0 = dktJ5_charAt_0 := by decide +kernel
theorem dJ5_charAt_0 : decode cJ5_charAt 0 = .ok (.iload_n 1, 1) := dk_27 (dk_at dksJ5_charAt_0 0 rfl rfl)
theorem dJ5_charAt_1 : decode cJ5_charAt 1 = .ok (.aload_n 0, 1) := dk_42 (dk_at dksJ5_charAt_0 1 rfl rfl)
theorem dJ5_charAt_2 : decode cJ5_charAt 2 = .ok (.invokestatic 67, 3) := dk_184 0 67 (dk_at dksJ5_charAt_0 2 rfl rfl)
theorem dJ5_charAt_5 : decode cJ5_charAt 5 = .ok (.aload_n 0, 1) := dk_42 (dk_at dksJ5_charAt_0 5 rfl rfl)
theorem dJ5_charAt_6 : decode cJ5_charAt 6 = .ok (.iload_n 1, 1) := dk_27 (dk_at dksJ5_charAt_0 6 rfl rfl)
theorem dJ5_charAt_7 : decode cJ5_charAt 7 = .ok (.invokestatic 71, 3) := dk_184 0 71 (dk_at dksJ5_charAt_0 7 rfl rfl)
theorem dJ5_charAt_10 : decode cJ5_charAt 10 = .ok (.ireturn, 1) := dk_172 (dk_at dksJ5_charAt_0 10 rfl rfl)
abbrev cJ5_hashCode : ByteArray := prog_39_method_39_code
def yJ5_hashCode : MethodName := ⟨RJ5, "hashCode", "([B)I"⟩
def dkwJ5_hashCode_2 : List UInt8 := [3, 167, 0, 22, 42, 3, 184, 0, 71, 167, 0, 14, 42, 3, 42, 190, 4, 122, 3, 8, 184, 0, 220, 172]
abbrev dktJ5_hashCode_2 : List UInt8 := dkwJ5_hashCode_2 ++ []
def dkwJ5_hashCode_1 : List UInt8 := [171, 0, 0, 0, 0, 38, 0, 0, 0, 2, 0, 0, 0, 0, 0, 0, 0, 26, 0, 0, 0, 2, 0, 0, 0, 30]
abbrev dktJ5_hashCode_1 : List UInt8 := dkwJ5_hashCode_1 ++ dktJ5_hashCode_2
def dkwJ5_hashCode_0 : List UInt8 := [42, 190]
abbrev dktJ5_hashCode_0 : List UInt8 := dkwJ5_hashCode_0 ++ dktJ5_hashCode_1
theorem dksJ5_hashCode_0 : cJ5_hashCode.data.toList.drop 0 = dktJ5_hashCode_0 := by decide +kernel
theorem dksJ5_hashCode_1 : cJ5_hashCode.data.toList.drop 2 = dktJ5_hashCode_1 := dk_seg dksJ5_hashCode_0 2 rfl rfl
theorem dksJ5_hashCode_2 : cJ5_hashCode.data.toList.drop 28 = dktJ5_hashCode_2 := dk_seg dksJ5_hashCode_1 26 rfl rfl
theorem dJ5_hashCode_0 : decode cJ5_hashCode 0 = .ok (.aload_n 0, 1) := dk_42 (dk_at dksJ5_hashCode_0 0 rfl rfl)
theorem dJ5_hashCode_1 : decode cJ5_hashCode 1 = .ok (.arraylength, 1) := dk_190 (dk_at dksJ5_hashCode_0 1 rfl rfl)
theorem dJ5_hashCode_2 : decode cJ5_hashCode 2 = .ok (.lookupswitch 38 #[(0, 26), (2, 30)], 26) := by decide +kernel
theorem dJ5_hashCode_28 : decode cJ5_hashCode 28 = .ok (.iconst 0, 1) := dk_3 (dk_at dksJ5_hashCode_2 0 rfl rfl)
theorem dJ5_hashCode_29 : decode cJ5_hashCode 29 = .ok (.goto 22, 3) := dk_167 0 22 (dk_at dksJ5_hashCode_2 1 rfl rfl)
theorem dJ5_hashCode_32 : decode cJ5_hashCode 32 = .ok (.aload_n 0, 1) := dk_42 (dk_at dksJ5_hashCode_2 4 rfl rfl)
theorem dJ5_hashCode_33 : decode cJ5_hashCode 33 = .ok (.iconst 0, 1) := dk_3 (dk_at dksJ5_hashCode_2 5 rfl rfl)
theorem dJ5_hashCode_34 : decode cJ5_hashCode 34 = .ok (.invokestatic 71, 3) := dk_184 0 71 (dk_at dksJ5_hashCode_2 6 rfl rfl)
theorem dJ5_hashCode_37 : decode cJ5_hashCode 37 = .ok (.goto 14, 3) := dk_167 0 14 (dk_at dksJ5_hashCode_2 9 rfl rfl)
theorem dJ5_hashCode_40 : decode cJ5_hashCode 40 = .ok (.aload_n 0, 1) := dk_42 (dk_at dksJ5_hashCode_2 12 rfl rfl)
theorem dJ5_hashCode_41 : decode cJ5_hashCode 41 = .ok (.iconst 0, 1) := dk_3 (dk_at dksJ5_hashCode_2 13 rfl rfl)
theorem dJ5_hashCode_42 : decode cJ5_hashCode 42 = .ok (.aload_n 0, 1) := dk_42 (dk_at dksJ5_hashCode_2 14 rfl rfl)
theorem dJ5_hashCode_43 : decode cJ5_hashCode 43 = .ok (.arraylength, 1) := dk_190 (dk_at dksJ5_hashCode_2 15 rfl rfl)
theorem dJ5_hashCode_44 : decode cJ5_hashCode 44 = .ok (.iconst 1, 1) := dk_4 (dk_at dksJ5_hashCode_2 16 rfl rfl)
theorem dJ5_hashCode_45 : decode cJ5_hashCode 45 = .ok (.ishr, 1) := dk_122 (dk_at dksJ5_hashCode_2 17 rfl rfl)
theorem dJ5_hashCode_46 : decode cJ5_hashCode 46 = .ok (.iconst 0, 1) := dk_3 (dk_at dksJ5_hashCode_2 18 rfl rfl)
theorem dJ5_hashCode_47 : decode cJ5_hashCode 47 = .ok (.iconst 5, 1) := dk_8 (dk_at dksJ5_hashCode_2 19 rfl rfl)
theorem dJ5_hashCode_48 : decode cJ5_hashCode 48 = .ok (.invokestatic 220, 3) := dk_184 0 220 (dk_at dksJ5_hashCode_2 20 rfl rfl)
theorem dJ5_hashCode_51 : decode cJ5_hashCode 51 = .ok (.ireturn, 1) := dk_172 (dk_at dksJ5_hashCode_2 23 rfl rfl)
theorem q94 : (Jvm.Cond.initialized "java/lang/StringUTF16") ∈ lw_all := lw_g (lw_at lw_m1 11 rfl) rfl
theorem q274 : (Jvm.Cond.static ({ cls := "java/lang/StringUTF16", name := "newBytesFor", desc := "(I)[B" } : Jvm.MethodName)) ∈ lw_all := lw_g (lw_at lw_m1 191 rfl) rfl
theorem q275 : (Jvm.Cond.code ({ cls := "java/lang/StringUTF16", name := "newBytesFor", desc := "(I)[B" } : Jvm.MethodName) prog_39_method_2_code (1 : Nat) (Option.some (Jvm.ClassFile.FieldType.array Jvm.ClassFile.FieldType.byte))) ∈ lw_all := lw_g (lw_at lw_m1 192 rfl) rfl
theorem q276 : (Jvm.Cond.methodLink "java/lang/StringUTF16" (11 : Nat) ({ cls := "java/lang/StringUTF16", name := "newBytesLength", desc := "(I)I" } : Jvm.MethodName)) ∈ lw_all := lw_g (lw_at lw_m1 193 rfl) rfl
theorem q277 : (Jvm.Cond.static ({ cls := "java/lang/StringUTF16", name := "newBytesLength", desc := "(I)I" } : Jvm.MethodName)) ∈ lw_all := lw_g (lw_at lw_m1 194 rfl) rfl
theorem q278 : (Jvm.Cond.code ({ cls := "java/lang/StringUTF16", name := "newBytesLength", desc := "(I)I" } : Jvm.MethodName) prog_39_method_3_code (1 : Nat) (Option.some Jvm.ClassFile.FieldType.int)) ∈ lw_all := lw_g (lw_at lw_m1 195 rfl) rfl
theorem q279 : (Jvm.Cond.classLink "java/lang/StringUTF16" (17 : Nat) "java/lang/NegativeArraySizeException") ∈ lw_all := lw_g (lw_at lw_m1 196 rfl) rfl
theorem q344 : (Jvm.Cond.methodLink "java/lang/StringUTF16" (19 : Nat) ({ cls := "java/lang/NegativeArraySizeException", name := "<init>", desc := "()V" } : Jvm.MethodName)) ∈ lw_all := lw_g (lw_at lw_m2 21 rfl) rfl
theorem q368 : (Jvm.Cond.constant "java/lang/StringUTF16" (20 : Nat) (1073741823 : Int32)) ∈ lw_all := lw_g (lw_at lw_m2 45 rfl) rfl
theorem q893 : (Jvm.Cond.static ({ cls := "java/lang/StringUTF16", name := "putCharsAt", desc := "([BICCCC)I" } : Jvm.MethodName)) ∈ lw_all := lw_g (lw_at lw_m4 90 rfl) rfl
theorem q894 : (Jvm.Cond.code ({ cls := "java/lang/StringUTF16", name := "putCharsAt", desc := "([BICCCC)I" } : Jvm.MethodName) prog_39_method_81_code (7 : Nat) (Option.some Jvm.ClassFile.FieldType.int)) ∈ lw_all := lw_g (lw_at lw_m4 91 rfl) rfl
theorem q895 : (Jvm.Cond.methodLink "java/lang/StringUTF16" (96 : Nat) ({ cls := "java/lang/StringUTF16", name := "checkBoundsBeginEnd", desc := "(II[B)V" } : Jvm.MethodName)) ∈ lw_all := lw_g (lw_at lw_m4 92 rfl) rfl
theorem q896 : (Jvm.Cond.static ({ cls := "java/lang/StringUTF16", name := "checkBoundsBeginEnd", desc := "(II[B)V" } : Jvm.MethodName)) ∈ lw_all := lw_g (lw_at lw_m4 93 rfl) rfl
theorem q897 : (Jvm.Cond.code ({ cls := "java/lang/StringUTF16", name := "checkBoundsBeginEnd", desc := "(II[B)V" } : Jvm.MethodName) prog_39_method_93_code (3 : Nat) (Option.none : Option Jvm.ClassFile.FieldType)) ∈ lw_all := lw_g (lw_at lw_m4 94 rfl) rfl
theorem q898 : (Jvm.Cond.methodLink "java/lang/StringUTF16" (48 : Nat) ({ cls := "java/lang/StringUTF16", name := "length", desc := "([B)I" } : Jvm.MethodName)) ∈ lw_all := lw_g (lw_at lw_m4 95 rfl) rfl
theorem q899 : (Jvm.Cond.static ({ cls := "java/lang/StringUTF16", name := "length", desc := "([B)I" } : Jvm.MethodName)) ∈ lw_all := lw_g (lw_at lw_m4 96 rfl) rfl
theorem q900 : (Jvm.Cond.code ({ cls := "java/lang/StringUTF16", name := "length", desc := "([B)I" } : Jvm.MethodName) prog_39_method_6_code (1 : Nat) (Option.some Jvm.ClassFile.FieldType.int)) ∈ lw_all := lw_g (lw_at lw_m4 97 rfl) rfl
theorem q901 : (Jvm.Cond.methodLink "java/lang/StringUTF16" (241 : Nat) ({ cls := "java/lang/String", name := "checkBoundsBeginEnd", desc := "(III)V" } : Jvm.MethodName)) ∈ lw_all := lw_g (lw_at lw_m4 98 rfl) rfl
theorem q1009 : (Jvm.Cond.methodLink "java/lang/StringUTF16" (111 : Nat) ({ cls := "java/lang/StringUTF16", name := "putChar", desc := "([BII)V" } : Jvm.MethodName)) ∈ lw_all := lw_g (lw_at lw_m4 206 rfl) rfl
theorem q1010 : (Jvm.Cond.static ({ cls := "java/lang/StringUTF16", name := "putChar", desc := "([BII)V" } : Jvm.MethodName)) ∈ lw_all := lw_g (lw_at lw_m4 207 rfl) rfl
theorem q1011 : (Jvm.Cond.code ({ cls := "java/lang/StringUTF16", name := "putChar", desc := "([BII)V" } : Jvm.MethodName) prog_39_method_4_code (3 : Nat) (Option.none : Option Jvm.ClassFile.FieldType)) ∈ lw_all := lw_g (lw_at lw_m4 208 rfl) rfl
theorem q1012 : (Jvm.Cond.fieldLink "java/lang/StringUTF16" (44 : Nat) "java/lang/StringUTF16" "$assertionsDisabled" "Z") ∈ lw_all := lw_g (lw_at lw_m4 209 rfl) rfl
theorem q1013 : (Jvm.Cond.laysStatic "java/lang/StringUTF16" "$assertionsDisabled" "Z") ∈ lw_tbl := lw_at lw_m4 210 rfl
theorem q1014 : (Jvm.Cond.fieldLink "java/lang/StringUTF16" (59 : Nat) "java/lang/StringUTF16" "HI_BYTE_SHIFT" "I") ∈ lw_all := lw_g (lw_at lw_m4 211 rfl) rfl
theorem q1015 : (Jvm.Cond.laysStatic "java/lang/StringUTF16" "HI_BYTE_SHIFT" "I") ∈ lw_tbl := lw_at lw_m4 212 rfl
theorem q1016 : (Jvm.Cond.fieldLink "java/lang/StringUTF16" (63 : Nat) "java/lang/StringUTF16" "LO_BYTE_SHIFT" "I") ∈ lw_all := lw_g (lw_at lw_m4 213 rfl) rfl
theorem q1017 : (Jvm.Cond.laysStatic "java/lang/StringUTF16" "LO_BYTE_SHIFT" "I") ∈ lw_tbl := lw_at lw_m4 214 rfl
theorem q1044 : (Jvm.Cond.static ({ cls := "java/lang/StringUTF16", name := "inflate", desc := "([BI[BII)V" } : Jvm.MethodName)) ∈ lw_all := lw_g (lw_at lw_m5 1 rfl) rfl
theorem q1045 : (Jvm.Cond.code ({ cls := "java/lang/StringUTF16", name := "inflate", desc := "([BI[BII)V" } : Jvm.MethodName) prog_39_method_86_code (6 : Nat) (Option.none : Option Jvm.ClassFile.FieldType)) ∈ lw_all := lw_g (lw_at lw_m5 2 rfl) rfl
theorem q1046 : (Jvm.Cond.methodLink "java/lang/StringUTF16" (173 : Nat) ({ cls := "java/lang/StringUTF16", name := "checkBoundsOffCount", desc := "(II[B)V" } : Jvm.MethodName)) ∈ lw_all := lw_g (lw_at lw_m5 3 rfl) rfl
theorem q1047 : (Jvm.Cond.static ({ cls := "java/lang/StringUTF16", name := "checkBoundsOffCount", desc := "(II[B)V" } : Jvm.MethodName)) ∈ lw_all := lw_g (lw_at lw_m5 4 rfl) rfl
theorem q1048 : (Jvm.Cond.code ({ cls := "java/lang/StringUTF16", name := "checkBoundsOffCount", desc := "(II[B)V" } : Jvm.MethodName) prog_39_method_94_code (3 : Nat) (Option.none : Option Jvm.ClassFile.FieldType)) ∈ lw_all := lw_g (lw_at lw_m5 5 rfl) rfl
theorem q1049 : (Jvm.Cond.methodLink "java/lang/StringUTF16" (419 : Nat) ({ cls := "java/lang/String", name := "checkBoundsOffCount", desc := "(III)I" } : Jvm.MethodName)) ∈ lw_all := lw_g (lw_at lw_m5 6 rfl) rfl
theorem q1083 : (Jvm.Cond.static ({ cls := "java/lang/StringUTF16", name := "getChars", desc := "(III[B)I" } : Jvm.MethodName)) ∈ lw_all := lw_g (lw_at lw_m5 40 rfl) rfl
theorem q1084 : (Jvm.Cond.code ({ cls := "java/lang/StringUTF16", name := "getChars", desc := "(III[B)I" } : Jvm.MethodName) prog_39_method_77_code (5 : Nat) (Option.some Jvm.ClassFile.FieldType.int)) ∈ lw_all := lw_g (lw_at lw_m5 41 rfl) rfl
theorem q1085 : (Jvm.Cond.methodLink "java/lang/StringUTF16" (393 : Nat) ({ cls := "java/lang/StringUTF16", name := "getChars", desc := "(II[B)I" } : Jvm.MethodName)) ∈ lw_all := lw_g (lw_at lw_m5 42 rfl) rfl
theorem q1086 : (Jvm.Cond.static ({ cls := "java/lang/StringUTF16", name := "getChars", desc := "(II[B)I" } : Jvm.MethodName)) ∈ lw_all := lw_g (lw_at lw_m5 43 rfl) rfl
theorem q1087 : (Jvm.Cond.code ({ cls := "java/lang/StringUTF16", name := "getChars", desc := "(II[B)I" } : Jvm.MethodName) prog_39_method_89_code (7 : Nat) (Option.some Jvm.ClassFile.FieldType.int)) ∈ lw_all := lw_g (lw_at lw_m5 44 rfl) rfl
theorem q1088 : (Jvm.Cond.fieldLink "java/lang/StringUTF16" (403 : Nat) "java/lang/Integer" "DigitOnes" "[B") ∈ lw_all := lw_g (lw_at lw_m5 45 rfl) rfl
theorem q1089 : (Jvm.Cond.fieldLink "java/lang/StringUTF16" (407 : Nat) "java/lang/Integer" "DigitTens" "[B") ∈ lw_all := lw_g (lw_at lw_m5 46 rfl) rfl
theorem q1148 : (Jvm.Cond.static ({ cls := "java/lang/StringUTF16", name := "compress", desc := "([BII)[B" } : Jvm.MethodName)) ∈ lw_all := lw_g (lw_at lw_m5 105 rfl) rfl
theorem q1149 : (Jvm.Cond.code ({ cls := "java/lang/StringUTF16", name := "compress", desc := "([BII)[B" } : Jvm.MethodName) prog_39_method_17_code (6 : Nat) (Option.some (Jvm.ClassFile.FieldType.array Jvm.ClassFile.FieldType.byte))) ∈ lw_all := lw_g (lw_at lw_m5 106 rfl) rfl
theorem q1150 : (Jvm.Cond.methodLink "java/lang/StringUTF16" (123 : Nat) ({ cls := "java/lang/StringUTF16", name := "compress", desc := "([BI[BII)I" } : Jvm.MethodName)) ∈ lw_all := lw_g (lw_at lw_m5 107 rfl) rfl
theorem q1151 : (Jvm.Cond.static ({ cls := "java/lang/StringUTF16", name := "compress", desc := "([BI[BII)I" } : Jvm.MethodName)) ∈ lw_all := lw_g (lw_at lw_m5 108 rfl) rfl
theorem q1152 : (Jvm.Cond.code ({ cls := "java/lang/StringUTF16", name := "compress", desc := "([BI[BII)I" } : Jvm.MethodName) prog_39_method_22_code (7 : Nat) (Option.some Jvm.ClassFile.FieldType.int)) ∈ lw_all := lw_g (lw_at lw_m5 109 rfl) rfl
theorem q1153 : (Jvm.Cond.methodLink "java/lang/StringUTF16" (71 : Nat) ({ cls := "java/lang/StringUTF16", name := "getChar", desc := "([BI)C" } : Jvm.MethodName)) ∈ lw_all := lw_g (lw_at lw_m5 110 rfl) rfl
theorem q1154 : (Jvm.Cond.static ({ cls := "java/lang/StringUTF16", name := "getChar", desc := "([BI)C" } : Jvm.MethodName)) ∈ lw_all := lw_g (lw_at lw_m5 111 rfl) rfl
theorem q1155 : (Jvm.Cond.code ({ cls := "java/lang/StringUTF16", name := "getChar", desc := "([BI)C" } : Jvm.MethodName) prog_39_method_5_code (2 : Nat) (Option.some Jvm.ClassFile.FieldType.char)) ∈ lw_all := lw_g (lw_at lw_m5 112 rfl) rfl
theorem q1156 : (Jvm.Cond.methodLink "java/lang/StringUTF16" (126 : Nat) ({ cls := "java/util/Arrays", name := "copyOfRange", desc := "([BII)[B" } : Jvm.MethodName)) ∈ lw_all := lw_g (lw_at lw_m5 113 rfl) rfl
theorem q1158 : (Jvm.Cond.static ({ cls := "java/lang/StringUTF16", name := "coderFromArrayLen", desc := "([BI)B" } : Jvm.MethodName)) ∈ lw_all := lw_g (lw_at lw_m5 115 rfl) rfl
theorem q1159 : (Jvm.Cond.code ({ cls := "java/lang/StringUTF16", name := "coderFromArrayLen", desc := "([BI)B" } : Jvm.MethodName) prog_39_method_15_code (2 : Nat) (Option.some Jvm.ClassFile.FieldType.byte)) ∈ lw_all := lw_g (lw_at lw_m5 116 rfl) rfl
theorem q1217 : (Jvm.Cond.static ({ cls := "java/lang/StringUTF16", name := "fillNull", desc := "([BII)V" } : Jvm.MethodName)) ∈ lw_all := lw_g (lw_at lw_m5 174 rfl) rfl
theorem q1218 : (Jvm.Cond.code ({ cls := "java/lang/StringUTF16", name := "fillNull", desc := "([BII)V" } : Jvm.MethodName) prog_39_method_70_code (3 : Nat) (Option.none : Option Jvm.ClassFile.FieldType)) ∈ lw_all := lw_g (lw_at lw_m5 175 rfl) rfl
theorem q1219 : (Jvm.Cond.methodLink "java/lang/StringUTF16" (380 : Nat) ({ cls := "java/util/Arrays", name := "fill", desc := "([BIIB)V" } : Jvm.MethodName)) ∈ lw_all := lw_g (lw_at lw_m5 176 rfl) rfl
theorem q1653 : (Jvm.Cond.static ({ cls := "java/lang/StringUTF16", name := "putCharSB", desc := "([BII)V" } : Jvm.MethodName)) ∈ lw_all := lw_g (lw_at lw_m7 130 rfl) rfl
theorem q1654 : (Jvm.Cond.code ({ cls := "java/lang/StringUTF16", name := "putCharSB", desc := "([BII)V" } : Jvm.MethodName) prog_39_method_71_code (3 : Nat) (Option.none : Option Jvm.ClassFile.FieldType)) ∈ lw_all := lw_g (lw_at lw_m7 131 rfl) rfl
theorem q1655 : (Jvm.Cond.methodLink "java/lang/StringUTF16" (67 : Nat) ({ cls := "java/lang/StringUTF16", name := "checkIndex", desc := "(I[B)V" } : Jvm.MethodName)) ∈ lw_all := lw_g (lw_at lw_m7 132 rfl) rfl
theorem q1656 : (Jvm.Cond.static ({ cls := "java/lang/StringUTF16", name := "checkIndex", desc := "(I[B)V" } : Jvm.MethodName)) ∈ lw_all := lw_g (lw_at lw_m7 133 rfl) rfl
theorem q1657 : (Jvm.Cond.code ({ cls := "java/lang/StringUTF16", name := "checkIndex", desc := "(I[B)V" } : Jvm.MethodName) prog_39_method_91_code (2 : Nat) (Option.none : Option Jvm.ClassFile.FieldType)) ∈ lw_all := lw_g (lw_at lw_m7 134 rfl) rfl
theorem q1658 : (Jvm.Cond.methodLink "java/lang/StringUTF16" (414 : Nat) ({ cls := "java/lang/String", name := "checkIndex", desc := "(II)V" } : Jvm.MethodName)) ∈ lw_all := lw_g (lw_at lw_m7 135 rfl) rfl
theorem q1782 : (Jvm.Cond.static ({ cls := "java/lang/StringUTF16", name := "charAt", desc := "([BI)C" } : Jvm.MethodName)) ∈ lw_all := lw_g (lw_at lw_m8 19 rfl) rfl
theorem q1783 : (Jvm.Cond.code ({ cls := "java/lang/StringUTF16", name := "charAt", desc := "([BI)C" } : Jvm.MethodName) prog_39_method_83_code (2 : Nat) (Option.some Jvm.ClassFile.FieldType.char)) ∈ lw_all := lw_g (lw_at lw_m8 20 rfl) rfl
theorem q2164 : (Jvm.Cond.static ({ cls := "java/lang/StringUTF16", name := "hashCode", desc := "([B)I" } : Jvm.MethodName)) ∈ lw_all := lw_g (lw_at lw_m9 161 rfl) rfl
theorem q2165 : (Jvm.Cond.code ({ cls := "java/lang/StringUTF16", name := "hashCode", desc := "([B)I" } : Jvm.MethodName) prog_39_method_39_code (1 : Nat) (Option.some Jvm.ClassFile.FieldType.int)) ∈ lw_all := lw_g (lw_at lw_m9 162 rfl) rfl
theorem q2166 : (Jvm.Cond.methodLink "java/lang/StringUTF16" (220 : Nat) ({ cls := "jdk/internal/util/ArraysSupport", name := "vectorizedHashCode", desc := "(Ljava/lang/Object;IIII)I" } : Jvm.MethodName)) ∈ lw_all := lw_g (lw_at lw_m9 163 rfl) rfl
/-! java/lang/Throwable -/
set_option maxRecDepth 100000
def RJ6 : String := "java/lang/Throwable"
def TJ6 : u_T := fun k => match k with
  | 0 => ("java/lang/Throwable", "cause", "Ljava/lang/Throwable;", false)
  | 1 => ("java/lang/Throwable", "stackTrace", "[Ljava/lang/StackTraceElement;", false)
  | 2 => ("java/lang/Throwable", "suppressedExceptions", "Ljava/util/List;", false)
  | 3 => ("java/lang/Throwable", "detailMessage", "Ljava/lang/String;", false)
  | _ => ("java/lang/Throwable", "backtrace", "Ljava/lang/Object;", false)
def tyJ6 : Nat → FieldType := fun k => match k with
  | 0 => .object "java/lang/Throwable"
  | 1 => .array (.object "java/lang/StackTraceElement")
  | 2 => .object "java/util/List"
  | 3 => .object "java/lang/String"
  | _ => .object "java/lang/Object"
abbrev wsJ60 : List Cond := u_ws RJ6 TJ6 5
theorem nmJ6 : ∀ a, a < 5 → ∀ b, b < 5 → a ≠ b → (TJ6 a).2.1 ≠ (TJ6 b).2.1 := by decide +kernel
theorem tyJ6_ok : ∀ k, k < 5 → parseFieldDescriptor (TJ6 k).2.2.1 = some (tyJ6 k) := by decide +kernel
abbrev cJ6_init : ByteArray := prog_42_method_1_code
def yJ6_init : MethodName := ⟨RJ6, "<init>", "()V"⟩
def dkwJ6_init_1 : List UInt8 := [182, 0, 27, 87, 177]
abbrev dktJ6_init_1 : List UInt8 := dkwJ6_init_1 ++ []
def dkwJ6_init_0 : List UInt8 := [42, 183, 0, 1, 42, 42, 181, 0, 7, 42, 178, 0, 13, 181, 0, 17, 42, 178, 0, 20, 181, 0, 24, 42]
abbrev dktJ6_init_0 : List UInt8 := dkwJ6_init_0 ++ dktJ6_init_1
theorem dksJ6_init_0 : cJ6_init.data.toList.drop 0 = dktJ6_init_0 := by decide +kernel
theorem dksJ6_init_1 : cJ6_init.data.toList.drop 24 = dktJ6_init_1 := dk_seg dksJ6_init_0 24 rfl rfl
theorem dJ6_init_0 : decode cJ6_init 0 = .ok (.aload_n 0, 1) := dk_42 (dk_at dksJ6_init_0 0 rfl rfl)
theorem dJ6_init_1 : decode cJ6_init 1 = .ok (.invokespecial 1, 3) := dk_183 0 1 (dk_at dksJ6_init_0 1 rfl rfl)
theorem dJ6_init_4 : decode cJ6_init 4 = .ok (.aload_n 0, 1) := dk_42 (dk_at dksJ6_init_0 4 rfl rfl)
theorem dJ6_init_5 : decode cJ6_init 5 = .ok (.aload_n 0, 1) := dk_42 (dk_at dksJ6_init_0 5 rfl rfl)
theorem dJ6_init_6 : decode cJ6_init 6 = .ok (.putfield 7, 3) := dk_181 0 7 (dk_at dksJ6_init_0 6 rfl rfl)
theorem dJ6_init_9 : decode cJ6_init 9 = .ok (.aload_n 0, 1) := dk_42 (dk_at dksJ6_init_0 9 rfl rfl)
theorem dJ6_init_10 : decode cJ6_init 10 = .ok (.getstatic 13, 3) := dk_178 0 13 (dk_at dksJ6_init_0 10 rfl rfl)
theorem dJ6_init_13 : decode cJ6_init 13 = .ok (.putfield 17, 3) := dk_181 0 17 (dk_at dksJ6_init_0 13 rfl rfl)
theorem dJ6_init_16 : decode cJ6_init 16 = .ok (.aload_n 0, 1) := dk_42 (dk_at dksJ6_init_0 16 rfl rfl)
theorem dJ6_init_17 : decode cJ6_init 17 = .ok (.getstatic 20, 3) := dk_178 0 20 (dk_at dksJ6_init_0 17 rfl rfl)
theorem dJ6_init_20 : decode cJ6_init 20 = .ok (.putfield 24, 3) := dk_181 0 24 (dk_at dksJ6_init_0 20 rfl rfl)
theorem dJ6_init_23 : decode cJ6_init 23 = .ok (.aload_n 0, 1) := dk_42 (dk_at dksJ6_init_0 23 rfl rfl)
theorem dJ6_init_24 : decode cJ6_init 24 = .ok (.invokevirtual 27, 3) := dk_182 0 27 (dk_at dksJ6_init_1 0 rfl rfl)
theorem dJ6_init_27 : decode cJ6_init 27 = .ok (.pop, 1) := dk_87 (dk_at dksJ6_init_1 3 rfl rfl)
theorem dJ6_init_28 : decode cJ6_init 28 = .ok (.return_, 1) := dk_177 (dk_at dksJ6_init_1 4 rfl rfl)
abbrev cJ6_init_2 : ByteArray := prog_42_method_2_code
def yJ6_init_2 : MethodName := ⟨RJ6, "<init>", "(Ljava/lang/String;)V"⟩
def dkwJ6_init_2_1 : List UInt8 := [182, 0, 27, 87, 42, 43, 181, 0, 31, 177]
abbrev dktJ6_init_2_1 : List UInt8 := dkwJ6_init_2_1 ++ []
def dkwJ6_init_2_0 : List UInt8 := [42, 183, 0, 1, 42, 42, 181, 0, 7, 42, 178, 0, 13, 181, 0, 17, 42, 178, 0, 20, 181, 0, 24, 42]
abbrev dktJ6_init_2_0 : List UInt8 := dkwJ6_init_2_0 ++ dktJ6_init_2_1
theorem dksJ6_init_2_0 : cJ6_init_2.data.toList.drop 0 = dktJ6_init_2_0 := by decide +kernel
theorem dksJ6_init_2_1 : cJ6_init_2.data.toList.drop 24 = dktJ6_init_2_1 := dk_seg dksJ6_init_2_0 24 rfl rfl
theorem dJ6_init_2_0 : decode cJ6_init_2 0 = .ok (.aload_n 0, 1) := dk_42 (dk_at dksJ6_init_2_0 0 rfl rfl)
theorem dJ6_init_2_1 : decode cJ6_init_2 1 = .ok (.invokespecial 1, 3) := dk_183 0 1 (dk_at dksJ6_init_2_0 1 rfl rfl)
theorem dJ6_init_2_4 : decode cJ6_init_2 4 = .ok (.aload_n 0, 1) := dk_42 (dk_at dksJ6_init_2_0 4 rfl rfl)
theorem dJ6_init_2_5 : decode cJ6_init_2 5 = .ok (.aload_n 0, 1) := dk_42 (dk_at dksJ6_init_2_0 5 rfl rfl)
theorem dJ6_init_2_6 : decode cJ6_init_2 6 = .ok (.putfield 7, 3) := dk_181 0 7 (dk_at dksJ6_init_2_0 6 rfl rfl)
theorem dJ6_init_2_9 : decode cJ6_init_2 9 = .ok (.aload_n 0, 1) := dk_42 (dk_at dksJ6_init_2_0 9 rfl rfl)
theorem dJ6_init_2_10 : decode cJ6_init_2 10 = .ok (.getstatic 13, 3) := dk_178 0 13 (dk_at dksJ6_init_2_0 10 rfl rfl)
theorem dJ6_init_2_13 : decode cJ6_init_2 13 = .ok (.putfield 17, 3) := dk_181 0 17 (dk_at dksJ6_init_2_0 13 rfl rfl)
theorem dJ6_init_2_16 : decode cJ6_init_2 16 = .ok (.aload_n 0, 1) := dk_42 (dk_at dksJ6_init_2_0 16 rfl rfl)
theorem dJ6_init_2_17 : decode cJ6_init_2 17 = .ok (.getstatic 20, 3) := dk_178 0 20 (dk_at dksJ6_init_2_0 17 rfl rfl)
theorem dJ6_init_2_20 : decode cJ6_init_2 20 = .ok (.putfield 24, 3) := dk_181 0 24 (dk_at dksJ6_init_2_0 20 rfl rfl)
theorem dJ6_init_2_23 : decode cJ6_init_2 23 = .ok (.aload_n 0, 1) := dk_42 (dk_at dksJ6_init_2_0 23 rfl rfl)
theorem dJ6_init_2_24 : decode cJ6_init_2 24 = .ok (.invokevirtual 27, 3) := dk_182 0 27 (dk_at dksJ6_init_2_1 0 rfl rfl)
theorem dJ6_init_2_27 : decode cJ6_init_2 27 = .ok (.pop, 1) := dk_87 (dk_at dksJ6_init_2_1 3 rfl rfl)
theorem dJ6_init_2_28 : decode cJ6_init_2 28 = .ok (.aload_n 0, 1) := dk_42 (dk_at dksJ6_init_2_1 4 rfl rfl)
theorem dJ6_init_2_29 : decode cJ6_init_2 29 = .ok (.aload_n 1, 1) := dk_43 (dk_at dksJ6_init_2_1 5 rfl rfl)
theorem dJ6_init_2_30 : decode cJ6_init_2 30 = .ok (.putfield 31, 3) := dk_181 0 31 (dk_at dksJ6_init_2_1 6 rfl rfl)
theorem dJ6_init_2_33 : decode cJ6_init_2 33 = .ok (.return_, 1) := dk_177 (dk_at dksJ6_init_2_1 9 rfl rfl)
abbrev cJ6_init_3 : ByteArray := prog_42_method_4_code
def yJ6_init_3 : MethodName := ⟨RJ6, "<init>", "(Ljava/lang/Throwable;)V"⟩
def dkwJ6_init_3_2 : List UInt8 := [181, 0, 7, 177]
abbrev dktJ6_init_3_2 : List UInt8 := dkwJ6_init_3_2 ++ []
def dkwJ6_init_3_1 : List UInt8 := [182, 0, 27, 87, 42, 43, 199, 0, 7, 1, 167, 0, 7, 43, 182, 0, 35, 181, 0, 31, 42, 43]
abbrev dktJ6_init_3_1 : List UInt8 := dkwJ6_init_3_1 ++ dktJ6_init_3_2
def dkwJ6_init_3_0 : List UInt8 := [42, 183, 0, 1, 42, 42, 181, 0, 7, 42, 178, 0, 13, 181, 0, 17, 42, 178, 0, 20, 181, 0, 24, 42]
abbrev dktJ6_init_3_0 : List UInt8 := dkwJ6_init_3_0 ++ dktJ6_init_3_1
theorem dksJ6_init_3_0 : cJ6_init_3.data.toList.drop 0 = dktJ6_init_3_0 := by decide +kernel
theorem dksJ6_init_3_1 : cJ6_init_3.data.toList.drop 24 = dktJ6_init_3_1 := dk_seg dksJ6_init_3_0 24 rfl rfl
theorem dksJ6_init_3_2 : cJ6_init_3.data.toList.drop 46 = dktJ6_init_3_2 := dk_seg dksJ6_init_3_1 22 rfl rfl
theorem dJ6_init_3_0 : decode cJ6_init_3 0 = .ok (.aload_n 0, 1) := dk_42 (dk_at dksJ6_init_3_0 0 rfl rfl)
theorem dJ6_init_3_1 : decode cJ6_init_3 1 = .ok (.invokespecial 1, 3) := dk_183 0 1 (dk_at dksJ6_init_3_0 1 rfl rfl)
theorem dJ6_init_3_4 : decode cJ6_init_3 4 = .ok (.aload_n 0, 1) := dk_42 (dk_at dksJ6_init_3_0 4 rfl rfl)
theorem dJ6_init_3_5 : decode cJ6_init_3 5 = .ok (.aload_n 0, 1) := dk_42 (dk_at dksJ6_init_3_0 5 rfl rfl)
theorem dJ6_init_3_6 : decode cJ6_init_3 6 = .ok (.putfield 7, 3) := dk_181 0 7 (dk_at dksJ6_init_3_0 6 rfl rfl)
theorem dJ6_init_3_9 : decode cJ6_init_3 9 = .ok (.aload_n 0, 1) := dk_42 (dk_at dksJ6_init_3_0 9 rfl rfl)
theorem dJ6_init_3_10 : decode cJ6_init_3 10 = .ok (.getstatic 13, 3) := dk_178 0 13 (dk_at dksJ6_init_3_0 10 rfl rfl)
theorem dJ6_init_3_13 : decode cJ6_init_3 13 = .ok (.putfield 17, 3) := dk_181 0 17 (dk_at dksJ6_init_3_0 13 rfl rfl)
theorem dJ6_init_3_16 : decode cJ6_init_3 16 = .ok (.aload_n 0, 1) := dk_42 (dk_at dksJ6_init_3_0 16 rfl rfl)
theorem dJ6_init_3_17 : decode cJ6_init_3 17 = .ok (.getstatic 20, 3) := dk_178 0 20 (dk_at dksJ6_init_3_0 17 rfl rfl)
theorem dJ6_init_3_20 : decode cJ6_init_3 20 = .ok (.putfield 24, 3) := dk_181 0 24 (dk_at dksJ6_init_3_0 20 rfl rfl)
theorem dJ6_init_3_23 : decode cJ6_init_3 23 = .ok (.aload_n 0, 1) := dk_42 (dk_at dksJ6_init_3_0 23 rfl rfl)
theorem dJ6_init_3_24 : decode cJ6_init_3 24 = .ok (.invokevirtual 27, 3) := dk_182 0 27 (dk_at dksJ6_init_3_1 0 rfl rfl)
theorem dJ6_init_3_27 : decode cJ6_init_3 27 = .ok (.pop, 1) := dk_87 (dk_at dksJ6_init_3_1 3 rfl rfl)
theorem dJ6_init_3_28 : decode cJ6_init_3 28 = .ok (.aload_n 0, 1) := dk_42 (dk_at dksJ6_init_3_1 4 rfl rfl)
theorem dJ6_init_3_29 : decode cJ6_init_3 29 = .ok (.aload_n 1, 1) := dk_43 (dk_at dksJ6_init_3_1 5 rfl rfl)
theorem dJ6_init_3_30 : decode cJ6_init_3 30 = .ok (.ifnonnull 7, 3) := dk_199 0 7 (dk_at dksJ6_init_3_1 6 rfl rfl)
theorem dJ6_init_3_33 : decode cJ6_init_3 33 = .ok (.aconst_null, 1) := dk_1 (dk_at dksJ6_init_3_1 9 rfl rfl)
theorem dJ6_init_3_34 : decode cJ6_init_3 34 = .ok (.goto 7, 3) := dk_167 0 7 (dk_at dksJ6_init_3_1 10 rfl rfl)
theorem dJ6_init_3_37 : decode cJ6_init_3 37 = .ok (.aload_n 1, 1) := dk_43 (dk_at dksJ6_init_3_1 13 rfl rfl)
theorem dJ6_init_3_38 : decode cJ6_init_3 38 = .ok (.invokevirtual 35, 3) := dk_182 0 35 (dk_at dksJ6_init_3_1 14 rfl rfl)
theorem dJ6_init_3_41 : decode cJ6_init_3 41 = .ok (.putfield 31, 3) := dk_181 0 31 (dk_at dksJ6_init_3_1 17 rfl rfl)
theorem dJ6_init_3_44 : decode cJ6_init_3 44 = .ok (.aload_n 0, 1) := dk_42 (dk_at dksJ6_init_3_1 20 rfl rfl)
theorem dJ6_init_3_45 : decode cJ6_init_3 45 = .ok (.aload_n 1, 1) := dk_43 (dk_at dksJ6_init_3_1 21 rfl rfl)
theorem dJ6_init_3_46 : decode cJ6_init_3 46 = .ok (.putfield 7, 3) := dk_181 0 7 (dk_at dksJ6_init_3_2 0 rfl rfl)
theorem dJ6_init_3_49 : decode cJ6_init_3 49 = .ok (.return_, 1) := dk_177 (dk_at dksJ6_init_3_2 3 rfl rfl)
abbrev cJ6_toString : ByteArray := prog_42_method_11_code
def yJ6_toString : MethodName := ⟨RJ6, "toString", "()Ljava/lang/String;"⟩
def dkwJ6_toString_1 : List UInt8 := [43, 182, 0, 49, 18, 81, 182, 0, 49, 44, 182, 0, 49, 182, 0, 60, 167, 0, 4, 43, 176]
abbrev dktJ6_toString_1 : List UInt8 := dkwJ6_toString_1 ++ []
def dkwJ6_toString_0 : List UInt8 := [42, 182, 0, 69, 182, 0, 73, 76, 42, 182, 0, 78, 77, 44, 198, 0, 29, 187, 0, 44, 89, 183, 0, 46]
abbrev dktJ6_toString_0 : List UInt8 := dkwJ6_toString_0 ++ dktJ6_toString_1
theorem dksJ6_toString_0 : cJ6_toString.data.toList.drop 0 = dktJ6_toString_0 := by decide +kernel
theorem dksJ6_toString_1 : cJ6_toString.data.toList.drop 24 = dktJ6_toString_1 := dk_seg dksJ6_toString_0 24 rfl rfl
theorem dJ6_toString_0 : decode cJ6_toString 0 = .ok (.aload_n 0, 1) := dk_42 (dk_at dksJ6_toString_0 0 rfl rfl)
theorem dJ6_toString_1 : decode cJ6_toString 1 = .ok (.invokevirtual 69, 3) := dk_182 0 69 (dk_at dksJ6_toString_0 1 rfl rfl)
theorem dJ6_toString_4 : decode cJ6_toString 4 = .ok (.invokevirtual 73, 3) := dk_182 0 73 (dk_at dksJ6_toString_0 4 rfl rfl)
theorem dJ6_toString_7 : decode cJ6_toString 7 = .ok (.astore_n 1, 1) := dk_76 (dk_at dksJ6_toString_0 7 rfl rfl)
theorem dJ6_toString_8 : decode cJ6_toString 8 = .ok (.aload_n 0, 1) := dk_42 (dk_at dksJ6_toString_0 8 rfl rfl)
theorem dJ6_toString_9 : decode cJ6_toString 9 = .ok (.invokevirtual 78, 3) := dk_182 0 78 (dk_at dksJ6_toString_0 9 rfl rfl)
theorem dJ6_toString_12 : decode cJ6_toString 12 = .ok (.astore_n 2, 1) := dk_77 (dk_at dksJ6_toString_0 12 rfl rfl)
theorem dJ6_toString_13 : decode cJ6_toString 13 = .ok (.aload_n 2, 1) := dk_44 (dk_at dksJ6_toString_0 13 rfl rfl)
theorem dJ6_toString_14 : decode cJ6_toString 14 = .ok (.ifnull 29, 3) := dk_198 0 29 (dk_at dksJ6_toString_0 14 rfl rfl)
theorem dJ6_toString_17 : decode cJ6_toString 17 = .ok (.new 44, 3) := dk_187 0 44 (dk_at dksJ6_toString_0 17 rfl rfl)
theorem dJ6_toString_20 : decode cJ6_toString 20 = .ok (.dup, 1) := dk_89 (dk_at dksJ6_toString_0 20 rfl rfl)
theorem dJ6_toString_21 : decode cJ6_toString 21 = .ok (.invokespecial 46, 3) := dk_183 0 46 (dk_at dksJ6_toString_0 21 rfl rfl)
theorem dJ6_toString_24 : decode cJ6_toString 24 = .ok (.aload_n 1, 1) := dk_43 (dk_at dksJ6_toString_1 0 rfl rfl)
theorem dJ6_toString_25 : decode cJ6_toString 25 = .ok (.invokevirtual 49, 3) := dk_182 0 49 (dk_at dksJ6_toString_1 1 rfl rfl)
theorem dJ6_toString_28 : decode cJ6_toString 28 = .ok (.ldc 81, 2) := dk_18 81 (dk_at dksJ6_toString_1 4 rfl rfl)
theorem dJ6_toString_30 : decode cJ6_toString 30 = .ok (.invokevirtual 49, 3) := dk_182 0 49 (dk_at dksJ6_toString_1 6 rfl rfl)
theorem dJ6_toString_33 : decode cJ6_toString 33 = .ok (.aload_n 2, 1) := dk_44 (dk_at dksJ6_toString_1 9 rfl rfl)
theorem dJ6_toString_34 : decode cJ6_toString 34 = .ok (.invokevirtual 49, 3) := dk_182 0 49 (dk_at dksJ6_toString_1 10 rfl rfl)
theorem dJ6_toString_37 : decode cJ6_toString 37 = .ok (.invokevirtual 60, 3) := dk_182 0 60 (dk_at dksJ6_toString_1 13 rfl rfl)
theorem dJ6_toString_40 : decode cJ6_toString 40 = .ok (.goto 4, 3) := dk_167 0 4 (dk_at dksJ6_toString_1 16 rfl rfl)
theorem dJ6_toString_43 : decode cJ6_toString 43 = .ok (.aload_n 1, 1) := dk_43 (dk_at dksJ6_toString_1 19 rfl rfl)
theorem dJ6_toString_44 : decode cJ6_toString 44 = .ok (.areturn, 1) := dk_176 (dk_at dksJ6_toString_1 20 rfl rfl)
abbrev cJ6_getLocalizedMessage : ByteArray := prog_42_method_7_code
def yJ6_getLocalizedMessage : MethodName := ⟨RJ6, "getLocalizedMessage", "()Ljava/lang/String;"⟩
theorem dJ6_getLocalizedMessage_0 : decode cJ6_getLocalizedMessage 0 = .ok (.aload_n 0, 1) := by decide +kernel
theorem dJ6_getLocalizedMessage_1 : decode cJ6_getLocalizedMessage 1 = .ok (.invokevirtual 39, 3) := by decide +kernel
theorem dJ6_getLocalizedMessage_4 : decode cJ6_getLocalizedMessage 4 = .ok (.areturn, 1) := by decide +kernel
abbrev cJ6_getMessage : ByteArray := prog_42_method_6_code
def yJ6_getMessage : MethodName := ⟨RJ6, "getMessage", "()Ljava/lang/String;"⟩
theorem dJ6_getMessage_0 : decode cJ6_getMessage 0 = .ok (.aload_n 0, 1) := by decide +kernel
theorem dJ6_getMessage_1 : decode cJ6_getMessage 1 = .ok (.getfield 31, 3) := by decide +kernel
theorem dJ6_getMessage_4 : decode cJ6_getMessage 4 = .ok (.areturn, 1) := by decide +kernel
theorem q95 : (Jvm.Cond.initialized "java/lang/Throwable") ∈ lw_all := lw_g (lw_at lw_m1 12 rfl) rfl
theorem q286 : (Jvm.Cond.declares ({ cls := "java/lang/Throwable", name := "<init>", desc := "()V" } : Jvm.MethodName)) ∈ lw_tbl := lw_at lw_m1 203 rfl
theorem q287 : (Jvm.Cond.declares ({ cls := "java/lang/Throwable", name := "<init>", desc := "(Ljava/lang/String;)V" } : Jvm.MethodName)) ∈ lw_tbl := lw_at lw_m1 204 rfl
theorem q291 : (Jvm.Cond.lays "java/lang/Throwable" "java/lang/Throwable" "cause" "Ljava/lang/Throwable;") ∈ lw_all := lw_g (lw_at lw_m1 208 rfl) rfl
theorem q293 : (Jvm.Cond.lays "java/lang/Throwable" "java/lang/Throwable" "stackTrace" "[Ljava/lang/StackTraceElement;") ∈ lw_all := lw_g (lw_at lw_m1 210 rfl) rfl
theorem q295 : (Jvm.Cond.lays "java/lang/Throwable" "java/lang/Throwable" "suppressedExceptions" "Ljava/util/List;") ∈ lw_all := lw_g (lw_at lw_m1 212 rfl) rfl
theorem q297 : (Jvm.Cond.lays "java/lang/Throwable" "java/lang/Throwable" "detailMessage" "Ljava/lang/String;") ∈ lw_all := lw_g (lw_at lw_m1 214 rfl) rfl
theorem q299 : (Jvm.Cond.lays "java/lang/Throwable" "java/lang/Throwable" "backtrace" "Ljava/lang/Object;") ∈ lw_all := lw_g (lw_at lw_m1 216 rfl) rfl
theorem q300 : (Jvm.Cond.fieldLink "java/lang/Throwable" (198 : Nat) "java/lang/Throwable" "backtrace" "Ljava/lang/Object;") ∈ lw_all := lw_g (lw_at lw_m1 217 rfl) rfl
theorem q301 : (Jvm.Cond.superclass "java/lang/Throwable" "java/lang/Object") ∈ lw_all := lw_g (lw_at lw_m1 218 rfl) rfl
theorem q302 : (Jvm.Cond.instanceMethod ({ cls := "java/lang/Throwable", name := "<init>", desc := "()V" } : Jvm.MethodName)) ∈ lw_all := lw_g (lw_at lw_m1 219 rfl) rfl
theorem q303 : (Jvm.Cond.code ({ cls := "java/lang/Throwable", name := "<init>", desc := "()V" } : Jvm.MethodName) prog_42_method_1_code (1 : Nat) (Option.none : Option Jvm.ClassFile.FieldType)) ∈ lw_all := lw_g (lw_at lw_m1 220 rfl) rfl
theorem q304 : (Jvm.Cond.methodLink "java/lang/Throwable" (1 : Nat) ({ cls := "java/lang/Object", name := "<init>", desc := "()V" } : Jvm.MethodName)) ∈ lw_all := lw_g (lw_at lw_m1 221 rfl) rfl
theorem q305 : (Jvm.Cond.fieldLink "java/lang/Throwable" (13 : Nat) "java/lang/Throwable" "UNASSIGNED_STACK" "[Ljava/lang/StackTraceElement;") ∈ lw_all := lw_g (lw_at lw_m1 222 rfl) rfl
theorem q306 : (Jvm.Cond.laysStatic "java/lang/Throwable" "UNASSIGNED_STACK" "[Ljava/lang/StackTraceElement;") ∈ lw_tbl := lw_at lw_m1 223 rfl
theorem q307 : (Jvm.Cond.fieldLink "java/lang/Throwable" (20 : Nat) "java/lang/Throwable" "SUPPRESSED_SENTINEL" "Ljava/util/List;") ∈ lw_all := lw_g (lw_at lw_m1 224 rfl) rfl
theorem q308 : (Jvm.Cond.laysStatic "java/lang/Throwable" "SUPPRESSED_SENTINEL" "Ljava/util/List;") ∈ lw_tbl := lw_at lw_m1 225 rfl
theorem q309 : (Jvm.Cond.methodLink "java/lang/Throwable" (27 : Nat) ({ cls := "java/lang/Throwable", name := "fillInStackTrace", desc := "()Ljava/lang/Throwable;" } : Jvm.MethodName)) ∈ lw_all := lw_g (lw_at lw_m1 226 rfl) rfl
theorem q310 : (Jvm.Cond.instanceMethod ({ cls := "java/lang/Throwable", name := "fillInStackTrace", desc := "()Ljava/lang/Throwable;" } : Jvm.MethodName)) ∈ lw_all := lw_g (lw_at lw_m1 227 rfl) rfl
theorem q311 : (Jvm.Cond.sameMethod "java/lang/Throwable" "java/lang/Throwable" "fillInStackTrace" "()Ljava/lang/Throwable;") ∈ lw_all := lw_g (lw_at lw_m1 228 rfl) rfl
theorem q330 : (Jvm.Cond.declares ({ cls := "java/lang/Throwable", name := "fillInStackTrace", desc := "()Ljava/lang/Throwable;" } : Jvm.MethodName)) ∈ lw_tbl := lw_at lw_m2 7 rfl
theorem q334 : (Jvm.Cond.codeSync ({ cls := "java/lang/Throwable", name := "fillInStackTrace", desc := "()Ljava/lang/Throwable;" } : Jvm.MethodName) prog_42_method_18_code (1 : Nat) (Option.some (Jvm.ClassFile.FieldType.object "java/lang/Throwable"))) ∈ lw_all := lw_g (lw_at lw_m2 11 rfl) rfl
theorem q335 : (Jvm.Cond.methodLink "java/lang/Throwable" (202 : Nat) ({ cls := "java/lang/Throwable", name := "fillInStackTrace", desc := "(I)Ljava/lang/Throwable;" } : Jvm.MethodName)) ∈ lw_all := lw_g (lw_at lw_m2 12 rfl) rfl
theorem q336 : (Jvm.Cond.privateMethod ({ cls := "java/lang/Throwable", name := "fillInStackTrace", desc := "(I)Ljava/lang/Throwable;" } : Jvm.MethodName)) ∈ lw_tbl := lw_at lw_m2 13 rfl
theorem q337 : (Jvm.Cond.instanceMethod ({ cls := "java/lang/Throwable", name := "fillInStackTrace", desc := "(I)Ljava/lang/Throwable;" } : Jvm.MethodName)) ∈ lw_all := lw_g (lw_at lw_m2 14 rfl) rfl
theorem q338 : (Jvm.Cond.instantiable "java/lang/Throwable" (6 : Nat)) ∈ lw_all := lw_g (lw_at lw_m2 15 rfl) rfl
theorem q339 : (Jvm.Cond.native ({ cls := "java/lang/Throwable", name := "fillInStackTrace", desc := "(I)Ljava/lang/Throwable;" } : Jvm.MethodName)) ∈ lw_all := lw_g (lw_at lw_m2 16 rfl) rfl
theorem q354 : (Jvm.Cond.fieldLink "java/lang/Throwable" (198 : Nat) "java/lang/Throwable" "backtrace" "Ljava/lang/Object;") ∈ lw_all := lw_g (lw_at lw_m2 31 rfl) rfl
theorem q355 : (Jvm.Cond.fieldLink "java/lang/Throwable" (31 : Nat) "java/lang/Throwable" "detailMessage" "Ljava/lang/String;") ∈ lw_all := lw_g (lw_at lw_m2 32 rfl) rfl
theorem q356 : (Jvm.Cond.fieldLink "java/lang/Throwable" (7 : Nat) "java/lang/Throwable" "cause" "Ljava/lang/Throwable;") ∈ lw_all := lw_g (lw_at lw_m2 33 rfl) rfl
theorem q357 : (Jvm.Cond.fieldLink "java/lang/Throwable" (17 : Nat) "java/lang/Throwable" "stackTrace" "[Ljava/lang/StackTraceElement;") ∈ lw_all := lw_g (lw_at lw_m2 34 rfl) rfl
theorem q358 : (Jvm.Cond.fieldLink "java/lang/Throwable" (24 : Nat) "java/lang/Throwable" "suppressedExceptions" "Ljava/util/List;") ∈ lw_all := lw_g (lw_at lw_m2 35 rfl) rfl
theorem q359 : (Jvm.Cond.soleField "java/lang/Throwable" "backtrace") ∈ lw_all := lw_g (lw_at lw_m2 36 rfl) rfl
theorem q360 : (Jvm.Cond.soleField "java/lang/Throwable" "detailMessage") ∈ lw_all := lw_g (lw_at lw_m2 37 rfl) rfl
theorem q361 : (Jvm.Cond.soleField "java/lang/Throwable" "cause") ∈ lw_all := lw_g (lw_at lw_m2 38 rfl) rfl
theorem q362 : (Jvm.Cond.soleField "java/lang/Throwable" "stackTrace") ∈ lw_all := lw_g (lw_at lw_m2 39 rfl) rfl
theorem q364 : (Jvm.Cond.soleField "java/lang/Throwable" "depth") ∈ lw_all := lw_g (lw_at lw_m2 41 rfl) rfl
theorem q365 : (Jvm.Cond.soleField "java/lang/Throwable" "suppressedExceptions") ∈ lw_all := lw_g (lw_at lw_m2 42 rfl) rfl
theorem q485 : (Jvm.Cond.instanceMethod ({ cls := "java/lang/Throwable", name := "<init>", desc := "(Ljava/lang/String;)V" } : Jvm.MethodName)) ∈ lw_all := lw_g (lw_at lw_m2 162 rfl) rfl
theorem q486 : (Jvm.Cond.code ({ cls := "java/lang/Throwable", name := "<init>", desc := "(Ljava/lang/String;)V" } : Jvm.MethodName) prog_42_method_2_code (2 : Nat) (Option.none : Option Jvm.ClassFile.FieldType)) ∈ lw_all := lw_g (lw_at lw_m2 163 rfl) rfl
theorem q2024 : (Jvm.Cond.instanceMethod ({ cls := "java/lang/Throwable", name := "<init>", desc := "(Ljava/lang/Throwable;)V" } : Jvm.MethodName)) ∈ lw_all := lw_g (lw_at lw_m9 21 rfl) rfl
theorem q2025 : (Jvm.Cond.code ({ cls := "java/lang/Throwable", name := "<init>", desc := "(Ljava/lang/Throwable;)V" } : Jvm.MethodName) prog_42_method_4_code (2 : Nat) (Option.none : Option Jvm.ClassFile.FieldType)) ∈ lw_all := lw_g (lw_at lw_m9 22 rfl) rfl
theorem q2026 : (Jvm.Cond.methodLink "java/lang/Throwable" (35 : Nat) ({ cls := "java/lang/Throwable", name := "toString", desc := "()Ljava/lang/String;" } : Jvm.MethodName)) ∈ lw_all := lw_g (lw_at lw_m9 23 rfl) rfl
theorem q2027 : (Jvm.Cond.instanceMethod ({ cls := "java/lang/Throwable", name := "toString", desc := "()Ljava/lang/String;" } : Jvm.MethodName)) ∈ lw_all := lw_g (lw_at lw_m9 24 rfl) rfl
theorem q2028 : (Jvm.Cond.sameMethod "java/lang/Throwable" "java/lang/Throwable" "toString" "()Ljava/lang/String;") ∈ lw_all := lw_g (lw_at lw_m9 25 rfl) rfl
theorem q2043 : (Jvm.Cond.code ({ cls := "java/lang/Throwable", name := "toString", desc := "()Ljava/lang/String;" } : Jvm.MethodName) prog_42_method_11_code (3 : Nat) (Option.some (Jvm.ClassFile.FieldType.object "java/lang/String"))) ∈ lw_all := lw_g (lw_at lw_m9 40 rfl) rfl
theorem q2044 : (Jvm.Cond.methodLink "java/lang/Throwable" (69 : Nat) ({ cls := "java/lang/Object", name := "getClass", desc := "()Ljava/lang/Class;" } : Jvm.MethodName)) ∈ lw_all := lw_g (lw_at lw_m9 41 rfl) rfl
theorem q2045 : (Jvm.Cond.methodLink "java/lang/Throwable" (78 : Nat) ({ cls := "java/lang/Throwable", name := "getLocalizedMessage", desc := "()Ljava/lang/String;" } : Jvm.MethodName)) ∈ lw_all := lw_g (lw_at lw_m9 42 rfl) rfl
theorem q2046 : (Jvm.Cond.instanceMethod ({ cls := "java/lang/Throwable", name := "getLocalizedMessage", desc := "()Ljava/lang/String;" } : Jvm.MethodName)) ∈ lw_all := lw_g (lw_at lw_m9 43 rfl) rfl
theorem q2047 : (Jvm.Cond.sameMethod "java/lang/Throwable" "java/lang/Throwable" "getLocalizedMessage" "()Ljava/lang/String;") ∈ lw_all := lw_g (lw_at lw_m9 44 rfl) rfl
theorem q2062 : (Jvm.Cond.code ({ cls := "java/lang/Throwable", name := "getLocalizedMessage", desc := "()Ljava/lang/String;" } : Jvm.MethodName) prog_42_method_7_code (1 : Nat) (Option.some (Jvm.ClassFile.FieldType.object "java/lang/String"))) ∈ lw_all := lw_g (lw_at lw_m9 59 rfl) rfl
theorem q2063 : (Jvm.Cond.methodLink "java/lang/Throwable" (39 : Nat) ({ cls := "java/lang/Throwable", name := "getMessage", desc := "()Ljava/lang/String;" } : Jvm.MethodName)) ∈ lw_all := lw_g (lw_at lw_m9 60 rfl) rfl
theorem q2064 : (Jvm.Cond.instanceMethod ({ cls := "java/lang/Throwable", name := "getMessage", desc := "()Ljava/lang/String;" } : Jvm.MethodName)) ∈ lw_all := lw_g (lw_at lw_m9 61 rfl) rfl
theorem q2065 : (Jvm.Cond.sameMethod "java/lang/Throwable" "java/lang/Throwable" "getMessage" "()Ljava/lang/String;") ∈ lw_all := lw_g (lw_at lw_m9 62 rfl) rfl
theorem q2080 : (Jvm.Cond.declares ({ cls := "java/lang/Throwable", name := "getMessage", desc := "()Ljava/lang/String;" } : Jvm.MethodName)) ∈ lw_tbl := lw_at lw_m9 77 rfl
theorem q2081 : (Jvm.Cond.code ({ cls := "java/lang/Throwable", name := "getMessage", desc := "()Ljava/lang/String;" } : Jvm.MethodName) prog_42_method_6_code (1 : Nat) (Option.some (Jvm.ClassFile.FieldType.object "java/lang/String"))) ∈ lw_all := lw_g (lw_at lw_m9 78 rfl) rfl
theorem q2086 : (Jvm.Cond.classLink "java/lang/Throwable" (44 : Nat) "java/lang/StringBuilder") ∈ lw_all := lw_g (lw_at lw_m9 83 rfl) rfl
theorem q2087 : (Jvm.Cond.methodLink "java/lang/Throwable" (46 : Nat) ({ cls := "java/lang/StringBuilder", name := "<init>", desc := "()V" } : Jvm.MethodName)) ∈ lw_all := lw_g (lw_at lw_m9 84 rfl) rfl
theorem q2088 : (Jvm.Cond.methodLink "java/lang/Throwable" (49 : Nat) ({ cls := "java/lang/StringBuilder", name := "append", desc := "(Ljava/lang/String;)Ljava/lang/StringBuilder;" } : Jvm.MethodName)) ∈ lw_all := lw_g (lw_at lw_m9 85 rfl) rfl
theorem q2089 : (Jvm.Cond.stringRef "java/lang/Throwable" (81 : Nat) ": ") ∈ lw_tbl := lw_at lw_m9 86 rfl
theorem q2090 : (Jvm.Cond.methodLink "java/lang/Throwable" (60 : Nat) ({ cls := "java/lang/StringBuilder", name := "toString", desc := "()Ljava/lang/String;" } : Jvm.MethodName)) ∈ lw_all := lw_g (lw_at lw_m9 87 rfl) rfl
theorem q2752 : (Jvm.Cond.sameMethod "java/lang/Throwable" "java/lang/Throwable" "fillInStackTrace" "(I)Ljava/lang/Throwable;") ∈ lw_all := lw_g (lw_at lw_m12 29 rfl) rfl
theorem q2819 : (Jvm.Cond.castable "java/lang/Throwable" "java/lang/Object") ∈ lw_tbl := lw_at lw_m12 96 rfl
theorem in_J6 : ∀ w ∈ wsJ60, w ∈ lw_all := lw_in wsJ60 [291, 293, 295, 297, 299] (by decide +kernel) (by decide +kernel)
/-! java/lang/Exception -/
set_option maxRecDepth 100000
def RJ7 : String := "java/lang/Exception"
abbrev cJ7_init : ByteArray := prog_23_method_1_code
def yJ7_init : MethodName := ⟨RJ7, "<init>", "()V"⟩
theorem dJ7_init_0 : decode cJ7_init 0 = .ok (.aload_n 0, 1) := by decide +kernel
theorem dJ7_init_1 : decode cJ7_init 1 = .ok (.invokespecial 1, 3) := by decide +kernel
theorem dJ7_init_4 : decode cJ7_init 4 = .ok (.return_, 1) := by decide +kernel
abbrev cJ7_init_2 : ByteArray := prog_23_method_2_code
def yJ7_init_2 : MethodName := ⟨RJ7, "<init>", "(Ljava/lang/String;)V"⟩
def dkwJ7_init_2_0 : List UInt8 := [42, 43, 183, 0, 7, 177]
abbrev dktJ7_init_2_0 : List UInt8 := dkwJ7_init_2_0 ++ []
theorem dksJ7_init_2_0 : cJ7_init_2.data.toList.drop 0 = dktJ7_init_2_0 := by decide +kernel
theorem dJ7_init_2_0 : decode cJ7_init_2 0 = .ok (.aload_n 0, 1) := dk_42 (dk_at dksJ7_init_2_0 0 rfl rfl)
theorem dJ7_init_2_1 : decode cJ7_init_2 1 = .ok (.aload_n 1, 1) := dk_43 (dk_at dksJ7_init_2_0 1 rfl rfl)
theorem dJ7_init_2_2 : decode cJ7_init_2 2 = .ok (.invokespecial 7, 3) := dk_183 0 7 (dk_at dksJ7_init_2_0 2 rfl rfl)
theorem dJ7_init_2_5 : decode cJ7_init_2 5 = .ok (.return_, 1) := dk_177 (dk_at dksJ7_init_2_0 5 rfl rfl)
abbrev cJ7_init_3 : ByteArray := prog_23_method_4_code
def yJ7_init_3 : MethodName := ⟨RJ7, "<init>", "(Ljava/lang/Throwable;)V"⟩
def dkwJ7_init_3_0 : List UInt8 := [42, 43, 183, 0, 13, 177]
abbrev dktJ7_init_3_0 : List UInt8 := dkwJ7_init_3_0 ++ []
theorem dksJ7_init_3_0 : cJ7_init_3.data.toList.drop 0 = dktJ7_init_3_0 := by decide +kernel
theorem dJ7_init_3_0 : decode cJ7_init_3 0 = .ok (.aload_n 0, 1) := dk_42 (dk_at dksJ7_init_3_0 0 rfl rfl)
theorem dJ7_init_3_1 : decode cJ7_init_3 1 = .ok (.aload_n 1, 1) := dk_43 (dk_at dksJ7_init_3_0 1 rfl rfl)
theorem dJ7_init_3_2 : decode cJ7_init_3 2 = .ok (.invokespecial 13, 3) := dk_183 0 13 (dk_at dksJ7_init_3_0 2 rfl rfl)
theorem dJ7_init_3_5 : decode cJ7_init_3 5 = .ok (.return_, 1) := dk_177 (dk_at dksJ7_init_3_0 5 rfl rfl)
theorem q96 : (Jvm.Cond.initialized "java/lang/Exception") ∈ lw_all := lw_g (lw_at lw_m1 13 rfl) rfl
theorem q284 : (Jvm.Cond.declares ({ cls := "java/lang/Exception", name := "<init>", desc := "()V" } : Jvm.MethodName)) ∈ lw_tbl := lw_at lw_m1 201 rfl
theorem q285 : (Jvm.Cond.declares ({ cls := "java/lang/Exception", name := "<init>", desc := "(Ljava/lang/String;)V" } : Jvm.MethodName)) ∈ lw_tbl := lw_at lw_m1 202 rfl
theorem q333 : (Jvm.Cond.superclass "java/lang/Exception" "java/lang/Throwable") ∈ lw_all := lw_g (lw_at lw_m2 10 rfl) rfl
theorem q351 : (Jvm.Cond.instanceMethod ({ cls := "java/lang/Exception", name := "<init>", desc := "()V" } : Jvm.MethodName)) ∈ lw_all := lw_g (lw_at lw_m2 28 rfl) rfl
theorem q352 : (Jvm.Cond.code ({ cls := "java/lang/Exception", name := "<init>", desc := "()V" } : Jvm.MethodName) prog_23_method_1_code (1 : Nat) (Option.none : Option Jvm.ClassFile.FieldType)) ∈ lw_all := lw_g (lw_at lw_m2 29 rfl) rfl
theorem q353 : (Jvm.Cond.methodLink "java/lang/Exception" (1 : Nat) ({ cls := "java/lang/Throwable", name := "<init>", desc := "()V" } : Jvm.MethodName)) ∈ lw_all := lw_g (lw_at lw_m2 30 rfl) rfl
theorem q482 : (Jvm.Cond.instanceMethod ({ cls := "java/lang/Exception", name := "<init>", desc := "(Ljava/lang/String;)V" } : Jvm.MethodName)) ∈ lw_all := lw_g (lw_at lw_m2 159 rfl) rfl
theorem q483 : (Jvm.Cond.code ({ cls := "java/lang/Exception", name := "<init>", desc := "(Ljava/lang/String;)V" } : Jvm.MethodName) prog_23_method_2_code (2 : Nat) (Option.none : Option Jvm.ClassFile.FieldType)) ∈ lw_all := lw_g (lw_at lw_m2 160 rfl) rfl
theorem q484 : (Jvm.Cond.methodLink "java/lang/Exception" (7 : Nat) ({ cls := "java/lang/Throwable", name := "<init>", desc := "(Ljava/lang/String;)V" } : Jvm.MethodName)) ∈ lw_all := lw_g (lw_at lw_m2 161 rfl) rfl
theorem q2021 : (Jvm.Cond.instanceMethod ({ cls := "java/lang/Exception", name := "<init>", desc := "(Ljava/lang/Throwable;)V" } : Jvm.MethodName)) ∈ lw_all := lw_g (lw_at lw_m9 18 rfl) rfl
theorem q2022 : (Jvm.Cond.code ({ cls := "java/lang/Exception", name := "<init>", desc := "(Ljava/lang/Throwable;)V" } : Jvm.MethodName) prog_23_method_4_code (2 : Nat) (Option.none : Option Jvm.ClassFile.FieldType)) ∈ lw_all := lw_g (lw_at lw_m9 19 rfl) rfl
theorem q2023 : (Jvm.Cond.methodLink "java/lang/Exception" (13 : Nat) ({ cls := "java/lang/Throwable", name := "<init>", desc := "(Ljava/lang/Throwable;)V" } : Jvm.MethodName)) ∈ lw_all := lw_g (lw_at lw_m9 20 rfl) rfl
/-! java/lang/RuntimeException -/
set_option maxRecDepth 100000
def RJ8 : String := "java/lang/RuntimeException"
abbrev cJ8_init : ByteArray := prog_34_method_1_code
def yJ8_init : MethodName := ⟨RJ8, "<init>", "()V"⟩
theorem dJ8_init_0 : decode cJ8_init 0 = .ok (.aload_n 0, 1) := by decide +kernel
theorem dJ8_init_1 : decode cJ8_init 1 = .ok (.invokespecial 1, 3) := by decide +kernel
theorem dJ8_init_4 : decode cJ8_init 4 = .ok (.return_, 1) := by decide +kernel
abbrev cJ8_init_2 : ByteArray := prog_34_method_2_code
def yJ8_init_2 : MethodName := ⟨RJ8, "<init>", "(Ljava/lang/String;)V"⟩
def dkwJ8_init_2_0 : List UInt8 := [42, 43, 183, 0, 7, 177]
abbrev dktJ8_init_2_0 : List UInt8 := dkwJ8_init_2_0 ++ []
theorem dksJ8_init_2_0 : cJ8_init_2.data.toList.drop 0 = dktJ8_init_2_0 := by decide +kernel
theorem dJ8_init_2_0 : decode cJ8_init_2 0 = .ok (.aload_n 0, 1) := dk_42 (dk_at dksJ8_init_2_0 0 rfl rfl)
theorem dJ8_init_2_1 : decode cJ8_init_2 1 = .ok (.aload_n 1, 1) := dk_43 (dk_at dksJ8_init_2_0 1 rfl rfl)
theorem dJ8_init_2_2 : decode cJ8_init_2 2 = .ok (.invokespecial 7, 3) := dk_183 0 7 (dk_at dksJ8_init_2_0 2 rfl rfl)
theorem dJ8_init_2_5 : decode cJ8_init_2 5 = .ok (.return_, 1) := dk_177 (dk_at dksJ8_init_2_0 5 rfl rfl)
abbrev cJ8_init_3 : ByteArray := prog_34_method_4_code
def yJ8_init_3 : MethodName := ⟨RJ8, "<init>", "(Ljava/lang/Throwable;)V"⟩
def dkwJ8_init_3_0 : List UInt8 := [42, 43, 183, 0, 13, 177]
abbrev dktJ8_init_3_0 : List UInt8 := dkwJ8_init_3_0 ++ []
theorem dksJ8_init_3_0 : cJ8_init_3.data.toList.drop 0 = dktJ8_init_3_0 := by decide +kernel
theorem dJ8_init_3_0 : decode cJ8_init_3 0 = .ok (.aload_n 0, 1) := dk_42 (dk_at dksJ8_init_3_0 0 rfl rfl)
theorem dJ8_init_3_1 : decode cJ8_init_3 1 = .ok (.aload_n 1, 1) := dk_43 (dk_at dksJ8_init_3_0 1 rfl rfl)
theorem dJ8_init_3_2 : decode cJ8_init_3 2 = .ok (.invokespecial 13, 3) := dk_183 0 13 (dk_at dksJ8_init_3_0 2 rfl rfl)
theorem dJ8_init_3_5 : decode cJ8_init_3 5 = .ok (.return_, 1) := dk_177 (dk_at dksJ8_init_3_0 5 rfl rfl)
theorem q97 : (Jvm.Cond.initialized "java/lang/RuntimeException") ∈ lw_all := lw_g (lw_at lw_m1 14 rfl) rfl
theorem q282 : (Jvm.Cond.declares ({ cls := "java/lang/RuntimeException", name := "<init>", desc := "()V" } : Jvm.MethodName)) ∈ lw_tbl := lw_at lw_m1 199 rfl
theorem q283 : (Jvm.Cond.declares ({ cls := "java/lang/RuntimeException", name := "<init>", desc := "(Ljava/lang/String;)V" } : Jvm.MethodName)) ∈ lw_tbl := lw_at lw_m1 200 rfl
theorem q329 : (Jvm.Cond.sameMethod "java/lang/RuntimeException" "java/lang/Throwable" "fillInStackTrace" "()Ljava/lang/Throwable;") ∈ lw_all := lw_g (lw_at lw_m2 6 rfl) rfl
theorem q332 : (Jvm.Cond.superclass "java/lang/RuntimeException" "java/lang/Exception") ∈ lw_all := lw_g (lw_at lw_m2 9 rfl) rfl
theorem q348 : (Jvm.Cond.instanceMethod ({ cls := "java/lang/RuntimeException", name := "<init>", desc := "()V" } : Jvm.MethodName)) ∈ lw_all := lw_g (lw_at lw_m2 25 rfl) rfl
theorem q349 : (Jvm.Cond.code ({ cls := "java/lang/RuntimeException", name := "<init>", desc := "()V" } : Jvm.MethodName) prog_34_method_1_code (1 : Nat) (Option.none : Option Jvm.ClassFile.FieldType)) ∈ lw_all := lw_g (lw_at lw_m2 26 rfl) rfl
theorem q350 : (Jvm.Cond.methodLink "java/lang/RuntimeException" (1 : Nat) ({ cls := "java/lang/Exception", name := "<init>", desc := "()V" } : Jvm.MethodName)) ∈ lw_all := lw_g (lw_at lw_m2 27 rfl) rfl
theorem q479 : (Jvm.Cond.instanceMethod ({ cls := "java/lang/RuntimeException", name := "<init>", desc := "(Ljava/lang/String;)V" } : Jvm.MethodName)) ∈ lw_all := lw_g (lw_at lw_m2 156 rfl) rfl
theorem q480 : (Jvm.Cond.code ({ cls := "java/lang/RuntimeException", name := "<init>", desc := "(Ljava/lang/String;)V" } : Jvm.MethodName) prog_34_method_2_code (2 : Nat) (Option.none : Option Jvm.ClassFile.FieldType)) ∈ lw_all := lw_g (lw_at lw_m2 157 rfl) rfl
theorem q481 : (Jvm.Cond.methodLink "java/lang/RuntimeException" (7 : Nat) ({ cls := "java/lang/Exception", name := "<init>", desc := "(Ljava/lang/String;)V" } : Jvm.MethodName)) ∈ lw_all := lw_g (lw_at lw_m2 158 rfl) rfl
theorem q1706 : (Jvm.Cond.castable "java/lang/RuntimeException" "java/lang/Throwable") ∈ lw_tbl := lw_at lw_m7 183 rfl
theorem q2018 : (Jvm.Cond.instanceMethod ({ cls := "java/lang/RuntimeException", name := "<init>", desc := "(Ljava/lang/Throwable;)V" } : Jvm.MethodName)) ∈ lw_all := lw_g (lw_at lw_m9 15 rfl) rfl
theorem q2019 : (Jvm.Cond.code ({ cls := "java/lang/RuntimeException", name := "<init>", desc := "(Ljava/lang/Throwable;)V" } : Jvm.MethodName) prog_34_method_4_code (2 : Nat) (Option.none : Option Jvm.ClassFile.FieldType)) ∈ lw_all := lw_g (lw_at lw_m9 16 rfl) rfl
theorem q2020 : (Jvm.Cond.methodLink "java/lang/RuntimeException" (13 : Nat) ({ cls := "java/lang/Exception", name := "<init>", desc := "(Ljava/lang/Throwable;)V" } : Jvm.MethodName)) ∈ lw_all := lw_g (lw_at lw_m9 17 rfl) rfl
theorem q2079 : (Jvm.Cond.sameMethod "java/lang/RuntimeException" "java/lang/Throwable" "getMessage" "()Ljava/lang/String;") ∈ lw_all := lw_g (lw_at lw_m9 76 rfl) rfl
/-! java/lang/NegativeArraySizeException -/
set_option maxRecDepth 100000
def RJ9 : String := "java/lang/NegativeArraySizeException"
def TJ9 : u_T := fun k => match k with
  | 0 => ("java/lang/Throwable", "cause", "Ljava/lang/Throwable;", false)
  | 1 => ("java/lang/Throwable", "stackTrace", "[Ljava/lang/StackTraceElement;", false)
  | 2 => ("java/lang/Throwable", "suppressedExceptions", "Ljava/util/List;", false)
  | 3 => ("java/lang/Throwable", "detailMessage", "Ljava/lang/String;", false)
  | 4 => ("java/lang/Throwable", "backtrace", "Ljava/lang/Object;", false)
  | _ => ("java/lang/Throwable", "depth", "I", false)
def tyJ9 : Nat → FieldType := fun k => match k with
  | 0 => .object "java/lang/Throwable"
  | 1 => .array (.object "java/lang/StackTraceElement")
  | 2 => .object "java/util/List"
  | 3 => .object "java/lang/String"
  | 4 => .object "java/lang/Object"
  | _ => .int
abbrev wsJ90 : List Cond := u_ws RJ9 TJ9 6
theorem nmJ9 : ∀ a, a < 6 → ∀ b, b < 6 → a ≠ b → (TJ9 a).2.1 ≠ (TJ9 b).2.1 := by decide +kernel
theorem tyJ9_ok : ∀ k, k < 6 → parseFieldDescriptor (TJ9 k).2.2.1 = some (tyJ9 k) := by decide +kernel
abbrev cJ9_init : ByteArray := prog_31_method_1_code
def yJ9_init : MethodName := ⟨RJ9, "<init>", "()V"⟩
theorem dJ9_init_0 : decode cJ9_init 0 = .ok (.aload_n 0, 1) := by decide +kernel
theorem dJ9_init_1 : decode cJ9_init 1 = .ok (.invokespecial 1, 3) := by decide +kernel
theorem dJ9_init_4 : decode cJ9_init 4 = .ok (.return_, 1) := by decide +kernel
abbrev cJ9_init_2 : ByteArray := prog_31_method_2_code
def yJ9_init_2 : MethodName := ⟨RJ9, "<init>", "(Ljava/lang/String;)V"⟩
def dkwJ9_init_2_0 : List UInt8 := [42, 43, 183, 0, 7, 177]
abbrev dktJ9_init_2_0 : List UInt8 := dkwJ9_init_2_0 ++ []
theorem dksJ9_init_2_0 : cJ9_init_2.data.toList.drop 0 = dktJ9_init_2_0 := by decide +kernel
theorem dJ9_init_2_0 : decode cJ9_init_2 0 = .ok (.aload_n 0, 1) := dk_42 (dk_at dksJ9_init_2_0 0 rfl rfl)
theorem dJ9_init_2_1 : decode cJ9_init_2 1 = .ok (.aload_n 1, 1) := dk_43 (dk_at dksJ9_init_2_0 1 rfl rfl)
theorem dJ9_init_2_2 : decode cJ9_init_2 2 = .ok (.invokespecial 7, 3) := dk_183 0 7 (dk_at dksJ9_init_2_0 2 rfl rfl)
theorem dJ9_init_2_5 : decode cJ9_init_2 5 = .ok (.return_, 1) := dk_177 (dk_at dksJ9_init_2_0 5 rfl rfl)
theorem q98 : (Jvm.Cond.initialized "java/lang/NegativeArraySizeException") ∈ lw_all := lw_g (lw_at lw_m1 15 rfl) rfl
theorem q280 : (Jvm.Cond.instantiable "java/lang/NegativeArraySizeException" (6 : Nat)) ∈ lw_all := lw_g (lw_at lw_m1 197 rfl) rfl
theorem q281 : (Jvm.Cond.castable "java/lang/NegativeArraySizeException" "java/lang/NegativeArraySizeException") ∈ lw_tbl := lw_at lw_m1 198 rfl
theorem q288 : (Jvm.Cond.selects "java/lang/NegativeArraySizeException" ({ cls := "java/lang/Throwable", name := "fillInStackTrace", desc := "(I)Ljava/lang/Throwable;" } : Jvm.MethodName) ({ cls := "java/lang/Throwable", name := "fillInStackTrace", desc := "(I)Ljava/lang/Throwable;" } : Jvm.MethodName)) ∈ lw_all := lw_g (lw_at lw_m1 205 rfl) rfl
theorem q289 : (Jvm.Cond.selects "java/lang/NegativeArraySizeException" ({ cls := "java/lang/Throwable", name := "fillInStackTrace", desc := "()Ljava/lang/Throwable;" } : Jvm.MethodName) ({ cls := "java/lang/Throwable", name := "fillInStackTrace", desc := "()Ljava/lang/Throwable;" } : Jvm.MethodName)) ∈ lw_all := lw_g (lw_at lw_m1 206 rfl) rfl
theorem q290 : (Jvm.Cond.lays "java/lang/NegativeArraySizeException" "java/lang/Throwable" "cause" "Ljava/lang/Throwable;") ∈ lw_all := lw_g (lw_at lw_m1 207 rfl) rfl
theorem q292 : (Jvm.Cond.lays "java/lang/NegativeArraySizeException" "java/lang/Throwable" "stackTrace" "[Ljava/lang/StackTraceElement;") ∈ lw_all := lw_g (lw_at lw_m1 209 rfl) rfl
theorem q294 : (Jvm.Cond.lays "java/lang/NegativeArraySizeException" "java/lang/Throwable" "suppressedExceptions" "Ljava/util/List;") ∈ lw_all := lw_g (lw_at lw_m1 211 rfl) rfl
theorem q296 : (Jvm.Cond.lays "java/lang/NegativeArraySizeException" "java/lang/Throwable" "detailMessage" "Ljava/lang/String;") ∈ lw_all := lw_g (lw_at lw_m1 213 rfl) rfl
theorem q298 : (Jvm.Cond.lays "java/lang/NegativeArraySizeException" "java/lang/Throwable" "backtrace" "Ljava/lang/Object;") ∈ lw_all := lw_g (lw_at lw_m1 215 rfl) rfl
theorem q345 : (Jvm.Cond.instanceMethod ({ cls := "java/lang/NegativeArraySizeException", name := "<init>", desc := "()V" } : Jvm.MethodName)) ∈ lw_all := lw_g (lw_at lw_m2 22 rfl) rfl
theorem q346 : (Jvm.Cond.code ({ cls := "java/lang/NegativeArraySizeException", name := "<init>", desc := "()V" } : Jvm.MethodName) prog_31_method_1_code (1 : Nat) (Option.none : Option Jvm.ClassFile.FieldType)) ∈ lw_all := lw_g (lw_at lw_m2 23 rfl) rfl
theorem q347 : (Jvm.Cond.methodLink "java/lang/NegativeArraySizeException" (1 : Nat) ({ cls := "java/lang/RuntimeException", name := "<init>", desc := "()V" } : Jvm.MethodName)) ∈ lw_all := lw_g (lw_at lw_m2 24 rfl) rfl
theorem q363 : (Jvm.Cond.lays "java/lang/NegativeArraySizeException" "java/lang/Throwable" "depth" "I") ∈ lw_all := lw_g (lw_at lw_m2 40 rfl) rfl
theorem q366 : (Jvm.Cond.superclass "java/lang/NegativeArraySizeException" "java/lang/RuntimeException") ∈ lw_all := lw_g (lw_at lw_m2 43 rfl) rfl
theorem q514 : (Jvm.Cond.selects "java/lang/NegativeArraySizeException" ({ cls := "java/lang/Object", name := "getClass", desc := "()Ljava/lang/Class;" } : Jvm.MethodName) ({ cls := "java/lang/Object", name := "getClass", desc := "()Ljava/lang/Class;" } : Jvm.MethodName)) ∈ lw_all := lw_g (lw_at lw_m2 191 rfl) rfl
theorem q1720 : (Jvm.Cond.instanceMethod ({ cls := "java/lang/NegativeArraySizeException", name := "<init>", desc := "(Ljava/lang/String;)V" } : Jvm.MethodName)) ∈ lw_all := lw_g (lw_at lw_m7 197 rfl) rfl
theorem q1721 : (Jvm.Cond.code ({ cls := "java/lang/NegativeArraySizeException", name := "<init>", desc := "(Ljava/lang/String;)V" } : Jvm.MethodName) prog_31_method_2_code (2 : Nat) (Option.none : Option Jvm.ClassFile.FieldType)) ∈ lw_all := lw_g (lw_at lw_m7 198 rfl) rfl
theorem q1722 : (Jvm.Cond.methodLink "java/lang/NegativeArraySizeException" (7 : Nat) ({ cls := "java/lang/RuntimeException", name := "<init>", desc := "(Ljava/lang/String;)V" } : Jvm.MethodName)) ∈ lw_all := lw_g (lw_at lw_m7 199 rfl) rfl
theorem q2037 : (Jvm.Cond.selects "java/lang/NegativeArraySizeException" ({ cls := "java/lang/Throwable", name := "toString", desc := "()Ljava/lang/String;" } : Jvm.MethodName) ({ cls := "java/lang/Throwable", name := "toString", desc := "()Ljava/lang/String;" } : Jvm.MethodName)) ∈ lw_all := lw_g (lw_at lw_m9 34 rfl) rfl
theorem q2056 : (Jvm.Cond.selects "java/lang/NegativeArraySizeException" ({ cls := "java/lang/Throwable", name := "getLocalizedMessage", desc := "()Ljava/lang/String;" } : Jvm.MethodName) ({ cls := "java/lang/Throwable", name := "getLocalizedMessage", desc := "()Ljava/lang/String;" } : Jvm.MethodName)) ∈ lw_all := lw_g (lw_at lw_m9 53 rfl) rfl
theorem q2074 : (Jvm.Cond.selects "java/lang/NegativeArraySizeException" ({ cls := "java/lang/Throwable", name := "getMessage", desc := "()Ljava/lang/String;" } : Jvm.MethodName) ({ cls := "java/lang/Throwable", name := "getMessage", desc := "()Ljava/lang/String;" } : Jvm.MethodName)) ∈ lw_all := lw_g (lw_at lw_m9 71 rfl) rfl
theorem q2778 : (Jvm.Cond.castable "java/lang/NegativeArraySizeException" "java/lang/RuntimeException") ∈ lw_tbl := lw_at lw_m12 55 rfl
theorem q2792 : (Jvm.Cond.castable "java/lang/NegativeArraySizeException" "java/lang/Object") ∈ lw_tbl := lw_at lw_m12 69 rfl
theorem in_J9 : ∀ w ∈ wsJ90, w ∈ lw_all := lw_in wsJ90 [290, 292, 294, 296, 298, 363] (by decide +kernel) (by decide +kernel)
/-! java/util/AbstractList -/
set_option maxRecDepth 100000
def RJ10 : String := "java/util/AbstractList"
abbrev cJ10_init : ByteArray := prog_47_method_1_code
def yJ10_init : MethodName := ⟨RJ10, "<init>", "()V"⟩
def dkwJ10_init_0 : List UInt8 := [42, 183, 0, 1, 42, 3, 181, 0, 7, 177]
abbrev dktJ10_init_0 : List UInt8 := dkwJ10_init_0 ++ []
theorem dksJ10_init_0 : cJ10_init.data.toList.drop 0 = dktJ10_init_0 := by decide +kernel
theorem dJ10_init_0 : decode cJ10_init 0 = .ok (.aload_n 0, 1) := dk_42 (dk_at dksJ10_init_0 0 rfl rfl)
theorem dJ10_init_1 : decode cJ10_init 1 = .ok (.invokespecial 1, 3) := dk_183 0 1 (dk_at dksJ10_init_0 1 rfl rfl)
theorem dJ10_init_4 : decode cJ10_init 4 = .ok (.aload_n 0, 1) := dk_42 (dk_at dksJ10_init_0 4 rfl rfl)
theorem dJ10_init_5 : decode cJ10_init 5 = .ok (.iconst 0, 1) := dk_3 (dk_at dksJ10_init_0 5 rfl rfl)
theorem dJ10_init_6 : decode cJ10_init 6 = .ok (.putfield 7, 3) := dk_181 0 7 (dk_at dksJ10_init_0 6 rfl rfl)
theorem dJ10_init_9 : decode cJ10_init 9 = .ok (.return_, 1) := dk_177 (dk_at dksJ10_init_0 9 rfl rfl)
abbrev cJ10_listIterator : ByteArray := prog_47_method_12_code
def yJ10_listIterator : MethodName := ⟨RJ10, "listIterator", "()Ljava/util/ListIterator;"⟩
def dkwJ10_listIterator_0 : List UInt8 := [42, 3, 182, 0, 47, 176]
abbrev dktJ10_listIterator_0 : List UInt8 := dkwJ10_listIterator_0 ++ []
theorem dksJ10_listIterator_0 : cJ10_listIterator.data.toList.drop 0 = dktJ10_listIterator_0 := by decide +kernel
theorem dJ10_listIterator_0 : decode cJ10_listIterator 0 = .ok (.aload_n 0, 1) := dk_42 (dk_at dksJ10_listIterator_0 0 rfl rfl)
theorem dJ10_listIterator_1 : decode cJ10_listIterator 1 = .ok (.iconst 0, 1) := dk_3 (dk_at dksJ10_listIterator_0 1 rfl rfl)
theorem dJ10_listIterator_2 : decode cJ10_listIterator 2 = .ok (.invokevirtual 47, 3) := dk_182 0 47 (dk_at dksJ10_listIterator_0 2 rfl rfl)
theorem dJ10_listIterator_5 : decode cJ10_listIterator 5 = .ok (.areturn, 1) := dk_176 (dk_at dksJ10_listIterator_0 5 rfl rfl)
theorem q100 : (Jvm.Cond.initialized "java/util/AbstractList") ∈ lw_all := lw_g (lw_at lw_m1 17 rfl) rfl
theorem q398 : (Jvm.Cond.instanceMethod ({ cls := "java/util/AbstractList", name := "<init>", desc := "()V" } : Jvm.MethodName)) ∈ lw_all := lw_g (lw_at lw_m2 75 rfl) rfl
theorem q399 : (Jvm.Cond.code ({ cls := "java/util/AbstractList", name := "<init>", desc := "()V" } : Jvm.MethodName) prog_47_method_1_code (1 : Nat) (Option.none : Option Jvm.ClassFile.FieldType)) ∈ lw_all := lw_g (lw_at lw_m2 76 rfl) rfl
theorem q400 : (Jvm.Cond.methodLink "java/util/AbstractList" (1 : Nat) ({ cls := "java/util/AbstractCollection", name := "<init>", desc := "()V" } : Jvm.MethodName)) ∈ lw_all := lw_g (lw_at lw_m2 77 rfl) rfl
theorem q405 : (Jvm.Cond.fieldLink "java/util/AbstractList" (7 : Nat) "java/util/AbstractList" "modCount" "I") ∈ lw_all := lw_g (lw_at lw_m2 82 rfl) rfl
theorem q417 : (Jvm.Cond.soleField "java/util/AbstractList" "modCount") ∈ lw_all := lw_g (lw_at lw_m2 94 rfl) rfl
theorem q1889 : (Jvm.Cond.declares ({ cls := "java/util/AbstractList", name := "listIterator", desc := "()Ljava/util/ListIterator;" } : Jvm.MethodName)) ∈ lw_tbl := lw_at lw_m8 126 rfl
theorem q1891 : (Jvm.Cond.instanceMethod ({ cls := "java/util/AbstractList", name := "listIterator", desc := "()Ljava/util/ListIterator;" } : Jvm.MethodName)) ∈ lw_all := lw_g (lw_at lw_m8 128 rfl) rfl
theorem q1892 : (Jvm.Cond.code ({ cls := "java/util/AbstractList", name := "listIterator", desc := "()Ljava/util/ListIterator;" } : Jvm.MethodName) prog_47_method_12_code (1 : Nat) (Option.some (Jvm.ClassFile.FieldType.object "java/util/ListIterator"))) ∈ lw_all := lw_g (lw_at lw_m8 129 rfl) rfl
theorem q1893 : (Jvm.Cond.methodLink "java/util/AbstractList" (47 : Nat) ({ cls := "java/util/AbstractList", name := "listIterator", desc := "(I)Ljava/util/ListIterator;" } : Jvm.MethodName)) ∈ lw_all := lw_g (lw_at lw_m8 130 rfl) rfl
theorem q1894 : (Jvm.Cond.instanceMethod ({ cls := "java/util/AbstractList", name := "listIterator", desc := "(I)Ljava/util/ListIterator;" } : Jvm.MethodName)) ∈ lw_all := lw_g (lw_at lw_m8 131 rfl) rfl
theorem q1895 : (Jvm.Cond.sameMethod "java/util/AbstractList" "java/util/AbstractList" "listIterator" "(I)Ljava/util/ListIterator;") ∈ lw_all := lw_g (lw_at lw_m8 132 rfl) rfl
theorem q1946 : (Jvm.Cond.declares ({ cls := "java/util/AbstractList", name := "listIterator", desc := "(I)Ljava/util/ListIterator;" } : Jvm.MethodName)) ∈ lw_tbl := lw_at lw_m8 183 rfl
theorem q1958 : (Jvm.Cond.sameMethod "java/util/AbstractList" "java/util/AbstractCollection" "size" "()I") ∈ lw_all := lw_g (lw_at lw_m8 195 rfl) rfl
theorem q1999 : (Jvm.Cond.declares ({ cls := "java/util/AbstractList", name := "get", desc := "(I)Ljava/lang/Object;" } : Jvm.MethodName)) ∈ lw_tbl := lw_at lw_m8 236 rfl
theorem q2000 : (Jvm.Cond.sameMethod "java/util/AbstractList" "java/util/AbstractList" "get" "(I)Ljava/lang/Object;") ∈ lw_all := lw_g (lw_at lw_m8 237 rfl) rfl
/-! java/util/AbstractSequentialList -/
set_option maxRecDepth 100000
def RJ11 : String := "java/util/AbstractSequentialList"
abbrev cJ11_init : ByteArray := prog_50_method_1_code
def yJ11_init : MethodName := ⟨RJ11, "<init>", "()V"⟩
theorem dJ11_init_0 : decode cJ11_init 0 = .ok (.aload_n 0, 1) := by decide +kernel
theorem dJ11_init_1 : decode cJ11_init 1 = .ok (.invokespecial 1, 3) := by decide +kernel
theorem dJ11_init_4 : decode cJ11_init 4 = .ok (.return_, 1) := by decide +kernel
abbrev cJ11_iterator : ByteArray := prog_50_method_7_code
def yJ11_iterator : MethodName := ⟨RJ11, "iterator", "()Ljava/util/Iterator;"⟩
theorem dJ11_iterator_0 : decode cJ11_iterator 0 = .ok (.aload_n 0, 1) := by decide +kernel
theorem dJ11_iterator_1 : decode cJ11_iterator 1 = .ok (.invokevirtual 65, 3) := by decide +kernel
theorem dJ11_iterator_4 : decode cJ11_iterator 4 = .ok (.areturn, 1) := by decide +kernel
theorem q101 : (Jvm.Cond.initialized "java/util/AbstractSequentialList") ∈ lw_all := lw_g (lw_at lw_m1 18 rfl) rfl
theorem q395 : (Jvm.Cond.instanceMethod ({ cls := "java/util/AbstractSequentialList", name := "<init>", desc := "()V" } : Jvm.MethodName)) ∈ lw_all := lw_g (lw_at lw_m2 72 rfl) rfl
theorem q396 : (Jvm.Cond.code ({ cls := "java/util/AbstractSequentialList", name := "<init>", desc := "()V" } : Jvm.MethodName) prog_50_method_1_code (1 : Nat) (Option.none : Option Jvm.ClassFile.FieldType)) ∈ lw_all := lw_g (lw_at lw_m2 73 rfl) rfl
theorem q397 : (Jvm.Cond.methodLink "java/util/AbstractSequentialList" (1 : Nat) ({ cls := "java/util/AbstractList", name := "<init>", desc := "()V" } : Jvm.MethodName)) ∈ lw_all := lw_g (lw_at lw_m2 74 rfl) rfl
theorem q1883 : (Jvm.Cond.declares ({ cls := "java/util/AbstractSequentialList", name := "iterator", desc := "()Ljava/util/Iterator;" } : Jvm.MethodName)) ∈ lw_tbl := lw_at lw_m8 120 rfl
theorem q1885 : (Jvm.Cond.instanceMethod ({ cls := "java/util/AbstractSequentialList", name := "iterator", desc := "()Ljava/util/Iterator;" } : Jvm.MethodName)) ∈ lw_all := lw_g (lw_at lw_m8 122 rfl) rfl
theorem q1886 : (Jvm.Cond.code ({ cls := "java/util/AbstractSequentialList", name := "iterator", desc := "()Ljava/util/Iterator;" } : Jvm.MethodName) prog_50_method_7_code (1 : Nat) (Option.some (Jvm.ClassFile.FieldType.object "java/util/Iterator"))) ∈ lw_all := lw_g (lw_at lw_m8 123 rfl) rfl
theorem q1887 : (Jvm.Cond.methodLink "java/util/AbstractSequentialList" (65 : Nat) ({ cls := "java/util/AbstractSequentialList", name := "listIterator", desc := "()Ljava/util/ListIterator;" } : Jvm.MethodName)) ∈ lw_all := lw_g (lw_at lw_m8 124 rfl) rfl
theorem q1888 : (Jvm.Cond.sameMethod "java/util/AbstractSequentialList" "java/util/AbstractList" "listIterator" "()Ljava/util/ListIterator;") ∈ lw_all := lw_g (lw_at lw_m8 125 rfl) rfl
/-! java/util/LinkedList -/
set_option maxRecDepth 100000
def RJ12 : String := "java/util/LinkedList"
def TJ12 : u_T := fun k => match k with
  | 0 => ("java/util/AbstractList", "modCount", "I", false)
  | 1 => ("java/util/LinkedList", "size", "I", false)
  | 2 => ("java/util/LinkedList", "first", "Ljava/util/LinkedList$Node;", false)
  | _ => ("java/util/LinkedList", "last", "Ljava/util/LinkedList$Node;", false)
def tyJ12 : Nat → FieldType := fun k => match k with
  | 0 => .int
  | 1 => .int
  | 2 => .object "java/util/LinkedList$Node"
  | _ => .object "java/util/LinkedList$Node"
abbrev wsJ120 : List Cond := u_ws RJ12 TJ12 4
theorem nmJ12 : ∀ a, a < 4 → ∀ b, b < 4 → a ≠ b → (TJ12 a).2.1 ≠ (TJ12 b).2.1 := by decide +kernel
theorem tyJ12_ok : ∀ k, k < 4 → parseFieldDescriptor (TJ12 k).2.2.1 = some (tyJ12 k) := by decide +kernel
abbrev cJ12_init : ByteArray := prog_63_method_1_code
def yJ12_init : MethodName := ⟨RJ12, "<init>", "()V"⟩
def dkwJ12_init_0 : List UInt8 := [42, 183, 0, 1, 42, 3, 181, 0, 7, 177]
abbrev dktJ12_init_0 : List UInt8 := dkwJ12_init_0 ++ []
theorem dksJ12_init_0 : cJ12_init.data.toList.drop 0 = dktJ12_init_0 := by decide +kernel
theorem dJ12_init_0 : decode cJ12_init 0 = .ok (.aload_n 0, 1) := dk_42 (dk_at dksJ12_init_0 0 rfl rfl)
theorem dJ12_init_1 : decode cJ12_init 1 = .ok (.invokespecial 1, 3) := dk_183 0 1 (dk_at dksJ12_init_0 1 rfl rfl)
theorem dJ12_init_4 : decode cJ12_init 4 = .ok (.aload_n 0, 1) := dk_42 (dk_at dksJ12_init_0 4 rfl rfl)
theorem dJ12_init_5 : decode cJ12_init 5 = .ok (.iconst 0, 1) := dk_3 (dk_at dksJ12_init_0 5 rfl rfl)
theorem dJ12_init_6 : decode cJ12_init 6 = .ok (.putfield 7, 3) := dk_181 0 7 (dk_at dksJ12_init_0 6 rfl rfl)
theorem dJ12_init_9 : decode cJ12_init 9 = .ok (.return_, 1) := dk_177 (dk_at dksJ12_init_0 9 rfl rfl)
abbrev cJ12_clear : ByteArray := prog_63_method_21_code
def yJ12_clear : MethodName := ⟨RJ12, "clear", "()V"⟩
def dkwJ12_clear_2 : List UInt8 := [181, 0, 7, 42, 89, 180, 0, 33, 4, 96, 181, 0, 33, 177]
abbrev dktJ12_clear_2 : List UInt8 := dkwJ12_clear_2 ++ []
def dkwJ12_clear_1 : List UInt8 := [43, 1, 181, 0, 30, 44, 76, 167, 255, 230, 42, 42, 1, 90, 181, 0, 27, 181, 0, 18, 42, 3]
abbrev dktJ12_clear_1 : List UInt8 := dkwJ12_clear_1 ++ dktJ12_clear_2
def dkwJ12_clear_0 : List UInt8 := [42, 180, 0, 18, 76, 43, 198, 0, 28, 43, 180, 0, 36, 77, 43, 1, 181, 0, 39, 43, 1, 181, 0, 36]
abbrev dktJ12_clear_0 : List UInt8 := dkwJ12_clear_0 ++ dktJ12_clear_1
theorem dksJ12_clear_0 : cJ12_clear.data.toList.drop 0 = dktJ12_clear_0 := by decide +kernel
theorem dksJ12_clear_1 : cJ12_clear.data.toList.drop 24 = dktJ12_clear_1 := dk_seg dksJ12_clear_0 24 rfl rfl
theorem dksJ12_clear_2 : cJ12_clear.data.toList.drop 46 = dktJ12_clear_2 := dk_seg dksJ12_clear_1 22 rfl rfl
theorem dJ12_clear_0 : decode cJ12_clear 0 = .ok (.aload_n 0, 1) := dk_42 (dk_at dksJ12_clear_0 0 rfl rfl)
theorem dJ12_clear_1 : decode cJ12_clear 1 = .ok (.getfield 18, 3) := dk_180 0 18 (dk_at dksJ12_clear_0 1 rfl rfl)
theorem dJ12_clear_4 : decode cJ12_clear 4 = .ok (.astore_n 1, 1) := dk_76 (dk_at dksJ12_clear_0 4 rfl rfl)
theorem dJ12_clear_5 : decode cJ12_clear 5 = .ok (.aload_n 1, 1) := dk_43 (dk_at dksJ12_clear_0 5 rfl rfl)
theorem dJ12_clear_6 : decode cJ12_clear 6 = .ok (.ifnull 28, 3) := dk_198 0 28 (dk_at dksJ12_clear_0 6 rfl rfl)
theorem dJ12_clear_9 : decode cJ12_clear 9 = .ok (.aload_n 1, 1) := dk_43 (dk_at dksJ12_clear_0 9 rfl rfl)
theorem dJ12_clear_10 : decode cJ12_clear 10 = .ok (.getfield 36, 3) := dk_180 0 36 (dk_at dksJ12_clear_0 10 rfl rfl)
theorem dJ12_clear_13 : decode cJ12_clear 13 = .ok (.astore_n 2, 1) := dk_77 (dk_at dksJ12_clear_0 13 rfl rfl)
theorem dJ12_clear_14 : decode cJ12_clear 14 = .ok (.aload_n 1, 1) := dk_43 (dk_at dksJ12_clear_0 14 rfl rfl)
theorem dJ12_clear_15 : decode cJ12_clear 15 = .ok (.aconst_null, 1) := dk_1 (dk_at dksJ12_clear_0 15 rfl rfl)
theorem dJ12_clear_16 : decode cJ12_clear 16 = .ok (.putfield 39, 3) := dk_181 0 39 (dk_at dksJ12_clear_0 16 rfl rfl)
theorem dJ12_clear_19 : decode cJ12_clear 19 = .ok (.aload_n 1, 1) := dk_43 (dk_at dksJ12_clear_0 19 rfl rfl)
theorem dJ12_clear_20 : decode cJ12_clear 20 = .ok (.aconst_null, 1) := dk_1 (dk_at dksJ12_clear_0 20 rfl rfl)
theorem dJ12_clear_21 : decode cJ12_clear 21 = .ok (.putfield 36, 3) := dk_181 0 36 (dk_at dksJ12_clear_0 21 rfl rfl)
theorem dJ12_clear_24 : decode cJ12_clear 24 = .ok (.aload_n 1, 1) := dk_43 (dk_at dksJ12_clear_1 0 rfl rfl)
theorem dJ12_clear_25 : decode cJ12_clear 25 = .ok (.aconst_null, 1) := dk_1 (dk_at dksJ12_clear_1 1 rfl rfl)
theorem dJ12_clear_26 : decode cJ12_clear 26 = .ok (.putfield 30, 3) := dk_181 0 30 (dk_at dksJ12_clear_1 2 rfl rfl)
theorem dJ12_clear_29 : decode cJ12_clear 29 = .ok (.aload_n 2, 1) := dk_44 (dk_at dksJ12_clear_1 5 rfl rfl)
theorem dJ12_clear_30 : decode cJ12_clear 30 = .ok (.astore_n 1, 1) := dk_76 (dk_at dksJ12_clear_1 6 rfl rfl)
theorem dJ12_clear_31 : decode cJ12_clear 31 = .ok (.goto (-26), 3) := dk_167 255 230 (dk_at dksJ12_clear_1 7 rfl rfl)
theorem dJ12_clear_34 : decode cJ12_clear 34 = .ok (.aload_n 0, 1) := dk_42 (dk_at dksJ12_clear_1 10 rfl rfl)
theorem dJ12_clear_35 : decode cJ12_clear 35 = .ok (.aload_n 0, 1) := dk_42 (dk_at dksJ12_clear_1 11 rfl rfl)
theorem dJ12_clear_36 : decode cJ12_clear 36 = .ok (.aconst_null, 1) := dk_1 (dk_at dksJ12_clear_1 12 rfl rfl)
theorem dJ12_clear_37 : decode cJ12_clear 37 = .ok (.dup_x1, 1) := dk_90 (dk_at dksJ12_clear_1 13 rfl rfl)
theorem dJ12_clear_38 : decode cJ12_clear 38 = .ok (.putfield 27, 3) := dk_181 0 27 (dk_at dksJ12_clear_1 14 rfl rfl)
theorem dJ12_clear_41 : decode cJ12_clear 41 = .ok (.putfield 18, 3) := dk_181 0 18 (dk_at dksJ12_clear_1 17 rfl rfl)
theorem dJ12_clear_44 : decode cJ12_clear 44 = .ok (.aload_n 0, 1) := dk_42 (dk_at dksJ12_clear_1 20 rfl rfl)
theorem dJ12_clear_45 : decode cJ12_clear 45 = .ok (.iconst 0, 1) := dk_3 (dk_at dksJ12_clear_1 21 rfl rfl)
theorem dJ12_clear_46 : decode cJ12_clear 46 = .ok (.putfield 7, 3) := dk_181 0 7 (dk_at dksJ12_clear_2 0 rfl rfl)
theorem dJ12_clear_49 : decode cJ12_clear 49 = .ok (.aload_n 0, 1) := dk_42 (dk_at dksJ12_clear_2 3 rfl rfl)
theorem dJ12_clear_50 : decode cJ12_clear 50 = .ok (.dup, 1) := dk_89 (dk_at dksJ12_clear_2 4 rfl rfl)
theorem dJ12_clear_51 : decode cJ12_clear 51 = .ok (.getfield 33, 3) := dk_180 0 33 (dk_at dksJ12_clear_2 5 rfl rfl)
theorem dJ12_clear_54 : decode cJ12_clear 54 = .ok (.iconst 1, 1) := dk_4 (dk_at dksJ12_clear_2 8 rfl rfl)
theorem dJ12_clear_55 : decode cJ12_clear 55 = .ok (.iadd, 1) := dk_96 (dk_at dksJ12_clear_2 9 rfl rfl)
theorem dJ12_clear_56 : decode cJ12_clear 56 = .ok (.putfield 33, 3) := dk_181 0 33 (dk_at dksJ12_clear_2 10 rfl rfl)
theorem dJ12_clear_59 : decode cJ12_clear 59 = .ok (.return_, 1) := dk_177 (dk_at dksJ12_clear_2 13 rfl rfl)
abbrev cJ12_addLast : ByteArray := prog_63_method_14_code
def yJ12_addLast : MethodName := ⟨RJ12, "addLast", "(Ljava/lang/Object;)V"⟩
def dkwJ12_addLast_0 : List UInt8 := [42, 43, 182, 0, 57, 177]
abbrev dktJ12_addLast_0 : List UInt8 := dkwJ12_addLast_0 ++ []
theorem dksJ12_addLast_0 : cJ12_addLast.data.toList.drop 0 = dktJ12_addLast_0 := by decide +kernel
theorem dJ12_addLast_0 : decode cJ12_addLast 0 = .ok (.aload_n 0, 1) := dk_42 (dk_at dksJ12_addLast_0 0 rfl rfl)
theorem dJ12_addLast_1 : decode cJ12_addLast 1 = .ok (.aload_n 1, 1) := dk_43 (dk_at dksJ12_addLast_0 1 rfl rfl)
theorem dJ12_addLast_2 : decode cJ12_addLast 2 = .ok (.invokevirtual 57, 3) := dk_182 0 57 (dk_at dksJ12_addLast_0 2 rfl rfl)
theorem dJ12_addLast_5 : decode cJ12_addLast 5 = .ok (.return_, 1) := dk_177 (dk_at dksJ12_addLast_0 5 rfl rfl)
abbrev cJ12_linkLast : ByteArray := prog_63_method_4_code
def yJ12_linkLast : MethodName := ⟨RJ12, "linkLast", "(Ljava/lang/Object;)V"⟩
def dkwJ12_linkLast_2 : List UInt8 := [181, 0, 7, 42, 89, 180, 0, 33, 4, 96, 181, 0, 33, 177]
abbrev dktJ12_linkLast_2 : List UInt8 := dkwJ12_linkLast_2 ++ []
def dkwJ12_linkLast_1 : List UInt8 := [199, 0, 11, 42, 45, 181, 0, 18, 167, 0, 8, 44, 45, 181, 0, 36, 42, 89, 180, 0, 7, 4, 96]
abbrev dktJ12_linkLast_1 : List UInt8 := dkwJ12_linkLast_1 ++ dktJ12_linkLast_2
def dkwJ12_linkLast_0 : List UInt8 := [42, 180, 0, 27, 77, 187, 0, 22, 89, 44, 43, 1, 183, 0, 24, 78, 42, 45, 181, 0, 27, 44]
abbrev dktJ12_linkLast_0 : List UInt8 := dkwJ12_linkLast_0 ++ dktJ12_linkLast_1
theorem dksJ12_linkLast_0 : cJ12_linkLast.data.toList.drop 0 = dktJ12_linkLast_0 := by decide +kernel
theorem dksJ12_linkLast_1 : cJ12_linkLast.data.toList.drop 22 = dktJ12_linkLast_1 := dk_seg dksJ12_linkLast_0 22 rfl rfl
theorem dksJ12_linkLast_2 : cJ12_linkLast.data.toList.drop 45 = dktJ12_linkLast_2 := dk_seg dksJ12_linkLast_1 23 rfl rfl
theorem dJ12_linkLast_0 : decode cJ12_linkLast 0 = .ok (.aload_n 0, 1) := dk_42 (dk_at dksJ12_linkLast_0 0 rfl rfl)
theorem dJ12_linkLast_1 : decode cJ12_linkLast 1 = .ok (.getfield 27, 3) := dk_180 0 27 (dk_at dksJ12_linkLast_0 1 rfl rfl)
theorem dJ12_linkLast_4 : decode cJ12_linkLast 4 = .ok (.astore_n 2, 1) := dk_77 (dk_at dksJ12_linkLast_0 4 rfl rfl)
theorem dJ12_linkLast_5 : decode cJ12_linkLast 5 = .ok (.new 22, 3) := dk_187 0 22 (dk_at dksJ12_linkLast_0 5 rfl rfl)
theorem dJ12_linkLast_8 : decode cJ12_linkLast 8 = .ok (.dup, 1) := dk_89 (dk_at dksJ12_linkLast_0 8 rfl rfl)
theorem dJ12_linkLast_9 : decode cJ12_linkLast 9 = .ok (.aload_n 2, 1) := dk_44 (dk_at dksJ12_linkLast_0 9 rfl rfl)
theorem dJ12_linkLast_10 : decode cJ12_linkLast 10 = .ok (.aload_n 1, 1) := dk_43 (dk_at dksJ12_linkLast_0 10 rfl rfl)
theorem dJ12_linkLast_11 : decode cJ12_linkLast 11 = .ok (.aconst_null, 1) := dk_1 (dk_at dksJ12_linkLast_0 11 rfl rfl)
theorem dJ12_linkLast_12 : decode cJ12_linkLast 12 = .ok (.invokespecial 24, 3) := dk_183 0 24 (dk_at dksJ12_linkLast_0 12 rfl rfl)
theorem dJ12_linkLast_15 : decode cJ12_linkLast 15 = .ok (.astore_n 3, 1) := dk_78 (dk_at dksJ12_linkLast_0 15 rfl rfl)
theorem dJ12_linkLast_16 : decode cJ12_linkLast 16 = .ok (.aload_n 0, 1) := dk_42 (dk_at dksJ12_linkLast_0 16 rfl rfl)
theorem dJ12_linkLast_17 : decode cJ12_linkLast 17 = .ok (.aload_n 3, 1) := dk_45 (dk_at dksJ12_linkLast_0 17 rfl rfl)
theorem dJ12_linkLast_18 : decode cJ12_linkLast 18 = .ok (.putfield 27, 3) := dk_181 0 27 (dk_at dksJ12_linkLast_0 18 rfl rfl)
theorem dJ12_linkLast_21 : decode cJ12_linkLast 21 = .ok (.aload_n 2, 1) := dk_44 (dk_at dksJ12_linkLast_0 21 rfl rfl)
theorem dJ12_linkLast_22 : decode cJ12_linkLast 22 = .ok (.ifnonnull 11, 3) := dk_199 0 11 (dk_at dksJ12_linkLast_1 0 rfl rfl)
theorem dJ12_linkLast_25 : decode cJ12_linkLast 25 = .ok (.aload_n 0, 1) := dk_42 (dk_at dksJ12_linkLast_1 3 rfl rfl)
theorem dJ12_linkLast_26 : decode cJ12_linkLast 26 = .ok (.aload_n 3, 1) := dk_45 (dk_at dksJ12_linkLast_1 4 rfl rfl)
theorem dJ12_linkLast_27 : decode cJ12_linkLast 27 = .ok (.putfield 18, 3) := dk_181 0 18 (dk_at dksJ12_linkLast_1 5 rfl rfl)
theorem dJ12_linkLast_30 : decode cJ12_linkLast 30 = .ok (.goto 8, 3) := dk_167 0 8 (dk_at dksJ12_linkLast_1 8 rfl rfl)
theorem dJ12_linkLast_33 : decode cJ12_linkLast 33 = .ok (.aload_n 2, 1) := dk_44 (dk_at dksJ12_linkLast_1 11 rfl rfl)
theorem dJ12_linkLast_34 : decode cJ12_linkLast 34 = .ok (.aload_n 3, 1) := dk_45 (dk_at dksJ12_linkLast_1 12 rfl rfl)
theorem dJ12_linkLast_35 : decode cJ12_linkLast 35 = .ok (.putfield 36, 3) := dk_181 0 36 (dk_at dksJ12_linkLast_1 13 rfl rfl)
theorem dJ12_linkLast_38 : decode cJ12_linkLast 38 = .ok (.aload_n 0, 1) := dk_42 (dk_at dksJ12_linkLast_1 16 rfl rfl)
theorem dJ12_linkLast_39 : decode cJ12_linkLast 39 = .ok (.dup, 1) := dk_89 (dk_at dksJ12_linkLast_1 17 rfl rfl)
theorem dJ12_linkLast_40 : decode cJ12_linkLast 40 = .ok (.getfield 7, 3) := dk_180 0 7 (dk_at dksJ12_linkLast_1 18 rfl rfl)
theorem dJ12_linkLast_43 : decode cJ12_linkLast 43 = .ok (.iconst 1, 1) := dk_4 (dk_at dksJ12_linkLast_1 21 rfl rfl)
theorem dJ12_linkLast_44 : decode cJ12_linkLast 44 = .ok (.iadd, 1) := dk_96 (dk_at dksJ12_linkLast_1 22 rfl rfl)
theorem dJ12_linkLast_45 : decode cJ12_linkLast 45 = .ok (.putfield 7, 3) := dk_181 0 7 (dk_at dksJ12_linkLast_2 0 rfl rfl)
theorem dJ12_linkLast_48 : decode cJ12_linkLast 48 = .ok (.aload_n 0, 1) := dk_42 (dk_at dksJ12_linkLast_2 3 rfl rfl)
theorem dJ12_linkLast_49 : decode cJ12_linkLast 49 = .ok (.dup, 1) := dk_89 (dk_at dksJ12_linkLast_2 4 rfl rfl)
theorem dJ12_linkLast_50 : decode cJ12_linkLast 50 = .ok (.getfield 33, 3) := dk_180 0 33 (dk_at dksJ12_linkLast_2 5 rfl rfl)
theorem dJ12_linkLast_53 : decode cJ12_linkLast 53 = .ok (.iconst 1, 1) := dk_4 (dk_at dksJ12_linkLast_2 8 rfl rfl)
theorem dJ12_linkLast_54 : decode cJ12_linkLast 54 = .ok (.iadd, 1) := dk_96 (dk_at dksJ12_linkLast_2 9 rfl rfl)
theorem dJ12_linkLast_55 : decode cJ12_linkLast 55 = .ok (.putfield 33, 3) := dk_181 0 33 (dk_at dksJ12_linkLast_2 10 rfl rfl)
theorem dJ12_linkLast_58 : decode cJ12_linkLast 58 = .ok (.return_, 1) := dk_177 (dk_at dksJ12_linkLast_2 13 rfl rfl)
abbrev cJ12_listIterator : ByteArray := prog_63_method_49_code
def yJ12_listIterator : MethodName := ⟨RJ12, "listIterator", "(I)Ljava/util/ListIterator;"⟩
def dkwJ12_listIterator_0 : List UInt8 := [42, 27, 182, 0, 76, 187, 0, 150, 89, 42, 27, 183, 0, 152, 176]
abbrev dktJ12_listIterator_0 : List UInt8 := dkwJ12_listIterator_0 ++ []
theorem dksJ12_listIterator_0 : cJ12_listIterator.data.toList.drop 0 = dktJ12_listIterator_0 := by decide +kernel
theorem dJ12_listIterator_0 : decode cJ12_listIterator 0 = .ok (.aload_n 0, 1) := dk_42 (dk_at dksJ12_listIterator_0 0 rfl rfl)
theorem dJ12_listIterator_1 : decode cJ12_listIterator 1 = .ok (.iload_n 1, 1) := dk_27 (dk_at dksJ12_listIterator_0 1 rfl rfl)
theorem dJ12_listIterator_2 : decode cJ12_listIterator 2 = .ok (.invokevirtual 76, 3) := dk_182 0 76 (dk_at dksJ12_listIterator_0 2 rfl rfl)
theorem dJ12_listIterator_5 : decode cJ12_listIterator 5 = .ok (.new 150, 3) := dk_187 0 150 (dk_at dksJ12_listIterator_0 5 rfl rfl)
theorem dJ12_listIterator_8 : decode cJ12_listIterator 8 = .ok (.dup, 1) := dk_89 (dk_at dksJ12_listIterator_0 8 rfl rfl)
theorem dJ12_listIterator_9 : decode cJ12_listIterator 9 = .ok (.aload_n 0, 1) := dk_42 (dk_at dksJ12_listIterator_0 9 rfl rfl)
theorem dJ12_listIterator_10 : decode cJ12_listIterator 10 = .ok (.iload_n 1, 1) := dk_27 (dk_at dksJ12_listIterator_0 10 rfl rfl)
theorem dJ12_listIterator_11 : decode cJ12_listIterator 11 = .ok (.invokespecial 152, 3) := dk_183 0 152 (dk_at dksJ12_listIterator_0 11 rfl rfl)
theorem dJ12_listIterator_14 : decode cJ12_listIterator 14 = .ok (.areturn, 1) := dk_176 (dk_at dksJ12_listIterator_0 14 rfl rfl)
abbrev cJ12_checkPositionIndex : ByteArray := prog_63_method_30_code
def yJ12_checkPositionIndex : MethodName := ⟨RJ12, "checkPositionIndex", "(I)V"⟩
def dkwJ12_checkPositionIndex_0 : List UInt8 := [42, 27, 182, 0, 128, 154, 0, 16, 187, 0, 119, 89, 42, 27, 182, 0, 121, 183, 0, 125, 191, 177]
abbrev dktJ12_checkPositionIndex_0 : List UInt8 := dkwJ12_checkPositionIndex_0 ++ []
theorem dksJ12_checkPositionIndex_0 : cJ12_checkPositionIndex.data.toList.drop 0 = dktJ12_checkPositionIndex_0 := by decide +kernel
theorem dJ12_checkPositionIndex_0 : decode cJ12_checkPositionIndex 0 = .ok (.aload_n 0, 1) := dk_42 (dk_at dksJ12_checkPositionIndex_0 0 rfl rfl)
theorem dJ12_checkPositionIndex_1 : decode cJ12_checkPositionIndex 1 = .ok (.iload_n 1, 1) := dk_27 (dk_at dksJ12_checkPositionIndex_0 1 rfl rfl)
theorem dJ12_checkPositionIndex_2 : decode cJ12_checkPositionIndex 2 = .ok (.invokevirtual 128, 3) := dk_182 0 128 (dk_at dksJ12_checkPositionIndex_0 2 rfl rfl)
theorem dJ12_checkPositionIndex_5 : decode cJ12_checkPositionIndex 5 = .ok (.ifCond .ne 16, 3) := dk_154 0 16 (dk_at dksJ12_checkPositionIndex_0 5 rfl rfl)
theorem dJ12_checkPositionIndex_8 : decode cJ12_checkPositionIndex 8 = .ok (.new 119, 3) := dk_187 0 119 (dk_at dksJ12_checkPositionIndex_0 8 rfl rfl)
theorem dJ12_checkPositionIndex_11 : decode cJ12_checkPositionIndex 11 = .ok (.dup, 1) := dk_89 (dk_at dksJ12_checkPositionIndex_0 11 rfl rfl)
theorem dJ12_checkPositionIndex_12 : decode cJ12_checkPositionIndex 12 = .ok (.aload_n 0, 1) := dk_42 (dk_at dksJ12_checkPositionIndex_0 12 rfl rfl)
theorem dJ12_checkPositionIndex_13 : decode cJ12_checkPositionIndex 13 = .ok (.iload_n 1, 1) := dk_27 (dk_at dksJ12_checkPositionIndex_0 13 rfl rfl)
theorem dJ12_checkPositionIndex_14 : decode cJ12_checkPositionIndex 14 = .ok (.invokevirtual 121, 3) := dk_182 0 121 (dk_at dksJ12_checkPositionIndex_0 14 rfl rfl)
theorem dJ12_checkPositionIndex_17 : decode cJ12_checkPositionIndex 17 = .ok (.invokespecial 125, 3) := dk_183 0 125 (dk_at dksJ12_checkPositionIndex_0 17 rfl rfl)
theorem dJ12_checkPositionIndex_20 : decode cJ12_checkPositionIndex 20 = .ok (.athrow, 1) := dk_191 (dk_at dksJ12_checkPositionIndex_0 20 rfl rfl)
theorem dJ12_checkPositionIndex_21 : decode cJ12_checkPositionIndex 21 = .ok (.return_, 1) := dk_177 (dk_at dksJ12_checkPositionIndex_0 21 rfl rfl)
abbrev cJ12_isPositionIndex : ByteArray := prog_63_method_27_code
def yJ12_isPositionIndex : MethodName := ⟨RJ12, "isPositionIndex", "(I)Z"⟩
def dkwJ12_isPositionIndex_0 : List UInt8 := [27, 155, 0, 15, 27, 42, 180, 0, 7, 163, 0, 7, 4, 167, 0, 4, 3, 172]
abbrev dktJ12_isPositionIndex_0 : List UInt8 := dkwJ12_isPositionIndex_0 ++ []
theorem dksJ12_isPositionIndex_0 : cJ12_isPositionIndex.data.toList.drop 0 = dktJ12_isPositionIndex_0 := by decide +kernel
theorem dJ12_isPositionIndex_0 : decode cJ12_isPositionIndex 0 = .ok (.iload_n 1, 1) := dk_27 (dk_at dksJ12_isPositionIndex_0 0 rfl rfl)
theorem dJ12_isPositionIndex_1 : decode cJ12_isPositionIndex 1 = .ok (.ifCond .lt 15, 3) := dk_155 0 15 (dk_at dksJ12_isPositionIndex_0 1 rfl rfl)
theorem dJ12_isPositionIndex_4 : decode cJ12_isPositionIndex 4 = .ok (.iload_n 1, 1) := dk_27 (dk_at dksJ12_isPositionIndex_0 4 rfl rfl)
theorem dJ12_isPositionIndex_5 : decode cJ12_isPositionIndex 5 = .ok (.aload_n 0, 1) := dk_42 (dk_at dksJ12_isPositionIndex_0 5 rfl rfl)
theorem dJ12_isPositionIndex_6 : decode cJ12_isPositionIndex 6 = .ok (.getfield 7, 3) := dk_180 0 7 (dk_at dksJ12_isPositionIndex_0 6 rfl rfl)
theorem dJ12_isPositionIndex_9 : decode cJ12_isPositionIndex 9 = .ok (.if_icmp .gt 7, 3) := dk_163 0 7 (dk_at dksJ12_isPositionIndex_0 9 rfl rfl)
theorem dJ12_isPositionIndex_12 : decode cJ12_isPositionIndex 12 = .ok (.iconst 1, 1) := dk_4 (dk_at dksJ12_isPositionIndex_0 12 rfl rfl)
theorem dJ12_isPositionIndex_13 : decode cJ12_isPositionIndex 13 = .ok (.goto 4, 3) := dk_167 0 4 (dk_at dksJ12_isPositionIndex_0 13 rfl rfl)
theorem dJ12_isPositionIndex_16 : decode cJ12_isPositionIndex 16 = .ok (.iconst 0, 1) := dk_3 (dk_at dksJ12_isPositionIndex_0 16 rfl rfl)
theorem dJ12_isPositionIndex_17 : decode cJ12_isPositionIndex 17 = .ok (.ireturn, 1) := dk_172 (dk_at dksJ12_isPositionIndex_0 17 rfl rfl)
abbrev cJ12_outOfBoundsMsg : ByteArray := prog_63_method_28_code
def yJ12_outOfBoundsMsg : MethodName := ⟨RJ12, "outOfBoundsMsg", "(I)Ljava/lang/String;"⟩
def dkwJ12_outOfBoundsMsg_1 : List UInt8 := [180, 0, 7, 182, 0, 106, 182, 0, 111, 176]
abbrev dktJ12_outOfBoundsMsg_1 : List UInt8 := dkwJ12_outOfBoundsMsg_1 ++ []
def dkwJ12_outOfBoundsMsg_0 : List UInt8 := [187, 0, 97, 89, 183, 0, 99, 18, 100, 182, 0, 102, 27, 182, 0, 106, 18, 109, 182, 0, 102, 42]
abbrev dktJ12_outOfBoundsMsg_0 : List UInt8 := dkwJ12_outOfBoundsMsg_0 ++ dktJ12_outOfBoundsMsg_1
theorem dksJ12_outOfBoundsMsg_0 : cJ12_outOfBoundsMsg.data.toList.drop 0 = dktJ12_outOfBoundsMsg_0 := by decide +kernel
theorem dksJ12_outOfBoundsMsg_1 : cJ12_outOfBoundsMsg.data.toList.drop 22 = dktJ12_outOfBoundsMsg_1 := dk_seg dksJ12_outOfBoundsMsg_0 22 rfl rfl
theorem dJ12_outOfBoundsMsg_0 : decode cJ12_outOfBoundsMsg 0 = .ok (.new 97, 3) := dk_187 0 97 (dk_at dksJ12_outOfBoundsMsg_0 0 rfl rfl)
theorem dJ12_outOfBoundsMsg_3 : decode cJ12_outOfBoundsMsg 3 = .ok (.dup, 1) := dk_89 (dk_at dksJ12_outOfBoundsMsg_0 3 rfl rfl)
theorem dJ12_outOfBoundsMsg_4 : decode cJ12_outOfBoundsMsg 4 = .ok (.invokespecial 99, 3) := dk_183 0 99 (dk_at dksJ12_outOfBoundsMsg_0 4 rfl rfl)
theorem dJ12_outOfBoundsMsg_7 : decode cJ12_outOfBoundsMsg 7 = .ok (.ldc 100, 2) := dk_18 100 (dk_at dksJ12_outOfBoundsMsg_0 7 rfl rfl)
theorem dJ12_outOfBoundsMsg_9 : decode cJ12_outOfBoundsMsg 9 = .ok (.invokevirtual 102, 3) := dk_182 0 102 (dk_at dksJ12_outOfBoundsMsg_0 9 rfl rfl)
theorem dJ12_outOfBoundsMsg_12 : decode cJ12_outOfBoundsMsg 12 = .ok (.iload_n 1, 1) := dk_27 (dk_at dksJ12_outOfBoundsMsg_0 12 rfl rfl)
theorem dJ12_outOfBoundsMsg_13 : decode cJ12_outOfBoundsMsg 13 = .ok (.invokevirtual 106, 3) := dk_182 0 106 (dk_at dksJ12_outOfBoundsMsg_0 13 rfl rfl)
theorem dJ12_outOfBoundsMsg_16 : decode cJ12_outOfBoundsMsg 16 = .ok (.ldc 109, 2) := dk_18 109 (dk_at dksJ12_outOfBoundsMsg_0 16 rfl rfl)
theorem dJ12_outOfBoundsMsg_18 : decode cJ12_outOfBoundsMsg 18 = .ok (.invokevirtual 102, 3) := dk_182 0 102 (dk_at dksJ12_outOfBoundsMsg_0 18 rfl rfl)
theorem dJ12_outOfBoundsMsg_21 : decode cJ12_outOfBoundsMsg 21 = .ok (.aload_n 0, 1) := dk_42 (dk_at dksJ12_outOfBoundsMsg_0 21 rfl rfl)
theorem dJ12_outOfBoundsMsg_22 : decode cJ12_outOfBoundsMsg 22 = .ok (.getfield 7, 3) := dk_180 0 7 (dk_at dksJ12_outOfBoundsMsg_1 0 rfl rfl)
theorem dJ12_outOfBoundsMsg_25 : decode cJ12_outOfBoundsMsg 25 = .ok (.invokevirtual 106, 3) := dk_182 0 106 (dk_at dksJ12_outOfBoundsMsg_1 3 rfl rfl)
theorem dJ12_outOfBoundsMsg_28 : decode cJ12_outOfBoundsMsg 28 = .ok (.invokevirtual 111, 3) := dk_182 0 111 (dk_at dksJ12_outOfBoundsMsg_1 6 rfl rfl)
theorem dJ12_outOfBoundsMsg_31 : decode cJ12_outOfBoundsMsg 31 = .ok (.areturn, 1) := dk_176 (dk_at dksJ12_outOfBoundsMsg_1 9 rfl rfl)
abbrev cJ12_node : ByteArray := prog_63_method_31_code
def yJ12_node : MethodName := ⟨RJ12, "node", "(I)Ljava/util/LinkedList$Node;"⟩
def dkwJ12_node_2 : List UInt8 := [29, 27, 164, 0, 14, 44, 180, 0, 30, 77, 132, 3, 255, 167, 255, 243, 44, 176]
abbrev dktJ12_node_2 : List UInt8 := dkwJ12_node_2 ++ []
def dkwJ12_node_1 : List UInt8 := [180, 0, 36, 77, 132, 3, 1, 167, 255, 243, 44, 176, 42, 180, 0, 27, 77, 42, 180, 0, 7, 4, 100, 62]
abbrev dktJ12_node_1 : List UInt8 := dkwJ12_node_1 ++ dktJ12_node_2
def dkwJ12_node_0 : List UInt8 := [27, 42, 180, 0, 7, 4, 122, 162, 0, 28, 42, 180, 0, 18, 77, 3, 62, 29, 27, 162, 0, 14, 44]
abbrev dktJ12_node_0 : List UInt8 := dkwJ12_node_0 ++ dktJ12_node_1
theorem dksJ12_node_0 : cJ12_node.data.toList.drop 0 = dktJ12_node_0 := by decide +kernel
theorem dksJ12_node_1 : cJ12_node.data.toList.drop 23 = dktJ12_node_1 := dk_seg dksJ12_node_0 23 rfl rfl
theorem dksJ12_node_2 : cJ12_node.data.toList.drop 47 = dktJ12_node_2 := dk_seg dksJ12_node_1 24 rfl rfl
theorem dJ12_node_0 : decode cJ12_node 0 = .ok (.iload_n 1, 1) := dk_27 (dk_at dksJ12_node_0 0 rfl rfl)
theorem dJ12_node_1 : decode cJ12_node 1 = .ok (.aload_n 0, 1) := dk_42 (dk_at dksJ12_node_0 1 rfl rfl)
theorem dJ12_node_2 : decode cJ12_node 2 = .ok (.getfield 7, 3) := dk_180 0 7 (dk_at dksJ12_node_0 2 rfl rfl)
theorem dJ12_node_5 : decode cJ12_node 5 = .ok (.iconst 1, 1) := dk_4 (dk_at dksJ12_node_0 5 rfl rfl)
theorem dJ12_node_6 : decode cJ12_node 6 = .ok (.ishr, 1) := dk_122 (dk_at dksJ12_node_0 6 rfl rfl)
theorem dJ12_node_7 : decode cJ12_node 7 = .ok (.if_icmp .ge 28, 3) := dk_162 0 28 (dk_at dksJ12_node_0 7 rfl rfl)
theorem dJ12_node_10 : decode cJ12_node 10 = .ok (.aload_n 0, 1) := dk_42 (dk_at dksJ12_node_0 10 rfl rfl)
theorem dJ12_node_11 : decode cJ12_node 11 = .ok (.getfield 18, 3) := dk_180 0 18 (dk_at dksJ12_node_0 11 rfl rfl)
theorem dJ12_node_14 : decode cJ12_node 14 = .ok (.astore_n 2, 1) := dk_77 (dk_at dksJ12_node_0 14 rfl rfl)
theorem dJ12_node_15 : decode cJ12_node 15 = .ok (.iconst 0, 1) := dk_3 (dk_at dksJ12_node_0 15 rfl rfl)
theorem dJ12_node_16 : decode cJ12_node 16 = .ok (.istore_n 3, 1) := dk_62 (dk_at dksJ12_node_0 16 rfl rfl)
theorem dJ12_node_17 : decode cJ12_node 17 = .ok (.iload_n 3, 1) := dk_29 (dk_at dksJ12_node_0 17 rfl rfl)
theorem dJ12_node_18 : decode cJ12_node 18 = .ok (.iload_n 1, 1) := dk_27 (dk_at dksJ12_node_0 18 rfl rfl)
theorem dJ12_node_19 : decode cJ12_node 19 = .ok (.if_icmp .ge 14, 3) := dk_162 0 14 (dk_at dksJ12_node_0 19 rfl rfl)
theorem dJ12_node_22 : decode cJ12_node 22 = .ok (.aload_n 2, 1) := dk_44 (dk_at dksJ12_node_0 22 rfl rfl)
theorem dJ12_node_23 : decode cJ12_node 23 = .ok (.getfield 36, 3) := dk_180 0 36 (dk_at dksJ12_node_1 0 rfl rfl)
theorem dJ12_node_26 : decode cJ12_node 26 = .ok (.astore_n 2, 1) := dk_77 (dk_at dksJ12_node_1 3 rfl rfl)
theorem dJ12_node_27 : decode cJ12_node 27 = .ok (.iinc 3 1, 3) := dk_132 3 1 (dk_at dksJ12_node_1 4 rfl rfl)
theorem dJ12_node_30 : decode cJ12_node 30 = .ok (.goto (-13), 3) := dk_167 255 243 (dk_at dksJ12_node_1 7 rfl rfl)
theorem dJ12_node_33 : decode cJ12_node 33 = .ok (.aload_n 2, 1) := dk_44 (dk_at dksJ12_node_1 10 rfl rfl)
theorem dJ12_node_34 : decode cJ12_node 34 = .ok (.areturn, 1) := dk_176 (dk_at dksJ12_node_1 11 rfl rfl)
theorem dJ12_node_35 : decode cJ12_node 35 = .ok (.aload_n 0, 1) := dk_42 (dk_at dksJ12_node_1 12 rfl rfl)
theorem dJ12_node_36 : decode cJ12_node 36 = .ok (.getfield 27, 3) := dk_180 0 27 (dk_at dksJ12_node_1 13 rfl rfl)
theorem dJ12_node_39 : decode cJ12_node 39 = .ok (.astore_n 2, 1) := dk_77 (dk_at dksJ12_node_1 16 rfl rfl)
theorem dJ12_node_40 : decode cJ12_node 40 = .ok (.aload_n 0, 1) := dk_42 (dk_at dksJ12_node_1 17 rfl rfl)
theorem dJ12_node_41 : decode cJ12_node 41 = .ok (.getfield 7, 3) := dk_180 0 7 (dk_at dksJ12_node_1 18 rfl rfl)
theorem dJ12_node_44 : decode cJ12_node 44 = .ok (.iconst 1, 1) := dk_4 (dk_at dksJ12_node_1 21 rfl rfl)
theorem dJ12_node_45 : decode cJ12_node 45 = .ok (.isub, 1) := dk_100 (dk_at dksJ12_node_1 22 rfl rfl)
theorem dJ12_node_46 : decode cJ12_node 46 = .ok (.istore_n 3, 1) := dk_62 (dk_at dksJ12_node_1 23 rfl rfl)
theorem dJ12_node_47 : decode cJ12_node 47 = .ok (.iload_n 3, 1) := dk_29 (dk_at dksJ12_node_2 0 rfl rfl)
theorem dJ12_node_48 : decode cJ12_node 48 = .ok (.iload_n 1, 1) := dk_27 (dk_at dksJ12_node_2 1 rfl rfl)
theorem dJ12_node_49 : decode cJ12_node 49 = .ok (.if_icmp .le 14, 3) := dk_164 0 14 (dk_at dksJ12_node_2 2 rfl rfl)
theorem dJ12_node_52 : decode cJ12_node 52 = .ok (.aload_n 2, 1) := dk_44 (dk_at dksJ12_node_2 5 rfl rfl)
theorem dJ12_node_53 : decode cJ12_node 53 = .ok (.getfield 30, 3) := dk_180 0 30 (dk_at dksJ12_node_2 6 rfl rfl)
theorem dJ12_node_56 : decode cJ12_node 56 = .ok (.astore_n 2, 1) := dk_77 (dk_at dksJ12_node_2 9 rfl rfl)
theorem dJ12_node_57 : decode cJ12_node 57 = .ok (.iinc 3 (-1), 3) := dk_132 3 255 (dk_at dksJ12_node_2 10 rfl rfl)
theorem dJ12_node_60 : decode cJ12_node 60 = .ok (.goto (-13), 3) := dk_167 255 243 (dk_at dksJ12_node_2 13 rfl rfl)
theorem dJ12_node_63 : decode cJ12_node 63 = .ok (.aload_n 2, 1) := dk_44 (dk_at dksJ12_node_2 16 rfl rfl)
theorem dJ12_node_64 : decode cJ12_node 64 = .ok (.areturn, 1) := dk_176 (dk_at dksJ12_node_2 17 rfl rfl)
abbrev cJ12_size : ByteArray := prog_63_method_16_code
def yJ12_size : MethodName := ⟨RJ12, "size", "()I"⟩
theorem dJ12_size_0 : decode cJ12_size 0 = .ok (.aload_n 0, 1) := by decide +kernel
theorem dJ12_size_1 : decode cJ12_size 1 = .ok (.getfield 7, 3) := by decide +kernel
theorem dJ12_size_4 : decode cJ12_size 4 = .ok (.ireturn, 1) := by decide +kernel
abbrev cJ12_get : ByteArray := prog_63_method_22_code
def yJ12_get : MethodName := ⟨RJ12, "get", "(I)Ljava/lang/Object;"⟩
def dkwJ12_get_0 : List UInt8 := [42, 27, 182, 0, 90, 42, 27, 182, 0, 86, 180, 0, 39, 176]
abbrev dktJ12_get_0 : List UInt8 := dkwJ12_get_0 ++ []
theorem dksJ12_get_0 : cJ12_get.data.toList.drop 0 = dktJ12_get_0 := by decide +kernel
theorem dJ12_get_0 : decode cJ12_get 0 = .ok (.aload_n 0, 1) := dk_42 (dk_at dksJ12_get_0 0 rfl rfl)
theorem dJ12_get_1 : decode cJ12_get 1 = .ok (.iload_n 1, 1) := dk_27 (dk_at dksJ12_get_0 1 rfl rfl)
theorem dJ12_get_2 : decode cJ12_get 2 = .ok (.invokevirtual 90, 3) := dk_182 0 90 (dk_at dksJ12_get_0 2 rfl rfl)
theorem dJ12_get_5 : decode cJ12_get 5 = .ok (.aload_n 0, 1) := dk_42 (dk_at dksJ12_get_0 5 rfl rfl)
theorem dJ12_get_6 : decode cJ12_get 6 = .ok (.iload_n 1, 1) := dk_27 (dk_at dksJ12_get_0 6 rfl rfl)
theorem dJ12_get_7 : decode cJ12_get 7 = .ok (.invokevirtual 86, 3) := dk_182 0 86 (dk_at dksJ12_get_0 7 rfl rfl)
theorem dJ12_get_10 : decode cJ12_get 10 = .ok (.getfield 39, 3) := dk_180 0 39 (dk_at dksJ12_get_0 10 rfl rfl)
theorem dJ12_get_13 : decode cJ12_get 13 = .ok (.areturn, 1) := dk_176 (dk_at dksJ12_get_0 13 rfl rfl)
abbrev cJ12_checkElementIndex : ByteArray := prog_63_method_29_code
def yJ12_checkElementIndex : MethodName := ⟨RJ12, "checkElementIndex", "(I)V"⟩
def dkwJ12_checkElementIndex_0 : List UInt8 := [42, 27, 182, 0, 115, 154, 0, 16, 187, 0, 119, 89, 42, 27, 182, 0, 121, 183, 0, 125, 191, 177]
abbrev dktJ12_checkElementIndex_0 : List UInt8 := dkwJ12_checkElementIndex_0 ++ []
theorem dksJ12_checkElementIndex_0 : cJ12_checkElementIndex.data.toList.drop 0 = dktJ12_checkElementIndex_0 := by decide +kernel
theorem dJ12_checkElementIndex_0 : decode cJ12_checkElementIndex 0 = .ok (.aload_n 0, 1) := dk_42 (dk_at dksJ12_checkElementIndex_0 0 rfl rfl)
theorem dJ12_checkElementIndex_1 : decode cJ12_checkElementIndex 1 = .ok (.iload_n 1, 1) := dk_27 (dk_at dksJ12_checkElementIndex_0 1 rfl rfl)
theorem dJ12_checkElementIndex_2 : decode cJ12_checkElementIndex 2 = .ok (.invokevirtual 115, 3) := dk_182 0 115 (dk_at dksJ12_checkElementIndex_0 2 rfl rfl)
theorem dJ12_checkElementIndex_5 : decode cJ12_checkElementIndex 5 = .ok (.ifCond .ne 16, 3) := dk_154 0 16 (dk_at dksJ12_checkElementIndex_0 5 rfl rfl)
theorem dJ12_checkElementIndex_8 : decode cJ12_checkElementIndex 8 = .ok (.new 119, 3) := dk_187 0 119 (dk_at dksJ12_checkElementIndex_0 8 rfl rfl)
theorem dJ12_checkElementIndex_11 : decode cJ12_checkElementIndex 11 = .ok (.dup, 1) := dk_89 (dk_at dksJ12_checkElementIndex_0 11 rfl rfl)
theorem dJ12_checkElementIndex_12 : decode cJ12_checkElementIndex 12 = .ok (.aload_n 0, 1) := dk_42 (dk_at dksJ12_checkElementIndex_0 12 rfl rfl)
theorem dJ12_checkElementIndex_13 : decode cJ12_checkElementIndex 13 = .ok (.iload_n 1, 1) := dk_27 (dk_at dksJ12_checkElementIndex_0 13 rfl rfl)
theorem dJ12_checkElementIndex_14 : decode cJ12_checkElementIndex 14 = .ok (.invokevirtual 121, 3) := dk_182 0 121 (dk_at dksJ12_checkElementIndex_0 14 rfl rfl)
theorem dJ12_checkElementIndex_17 : decode cJ12_checkElementIndex 17 = .ok (.invokespecial 125, 3) := dk_183 0 125 (dk_at dksJ12_checkElementIndex_0 17 rfl rfl)
theorem dJ12_checkElementIndex_20 : decode cJ12_checkElementIndex 20 = .ok (.athrow, 1) := dk_191 (dk_at dksJ12_checkElementIndex_0 20 rfl rfl)
theorem dJ12_checkElementIndex_21 : decode cJ12_checkElementIndex 21 = .ok (.return_, 1) := dk_177 (dk_at dksJ12_checkElementIndex_0 21 rfl rfl)
abbrev cJ12_isElementIndex : ByteArray := prog_63_method_26_code
def yJ12_isElementIndex : MethodName := ⟨RJ12, "isElementIndex", "(I)Z"⟩
def dkwJ12_isElementIndex_0 : List UInt8 := [27, 155, 0, 15, 27, 42, 180, 0, 7, 162, 0, 7, 4, 167, 0, 4, 3, 172]
abbrev dktJ12_isElementIndex_0 : List UInt8 := dkwJ12_isElementIndex_0 ++ []
theorem dksJ12_isElementIndex_0 : cJ12_isElementIndex.data.toList.drop 0 = dktJ12_isElementIndex_0 := by decide +kernel
theorem dJ12_isElementIndex_0 : decode cJ12_isElementIndex 0 = .ok (.iload_n 1, 1) := dk_27 (dk_at dksJ12_isElementIndex_0 0 rfl rfl)
theorem dJ12_isElementIndex_1 : decode cJ12_isElementIndex 1 = .ok (.ifCond .lt 15, 3) := dk_155 0 15 (dk_at dksJ12_isElementIndex_0 1 rfl rfl)
theorem dJ12_isElementIndex_4 : decode cJ12_isElementIndex 4 = .ok (.iload_n 1, 1) := dk_27 (dk_at dksJ12_isElementIndex_0 4 rfl rfl)
theorem dJ12_isElementIndex_5 : decode cJ12_isElementIndex 5 = .ok (.aload_n 0, 1) := dk_42 (dk_at dksJ12_isElementIndex_0 5 rfl rfl)
theorem dJ12_isElementIndex_6 : decode cJ12_isElementIndex 6 = .ok (.getfield 7, 3) := dk_180 0 7 (dk_at dksJ12_isElementIndex_0 6 rfl rfl)
theorem dJ12_isElementIndex_9 : decode cJ12_isElementIndex 9 = .ok (.if_icmp .ge 7, 3) := dk_162 0 7 (dk_at dksJ12_isElementIndex_0 9 rfl rfl)
theorem dJ12_isElementIndex_12 : decode cJ12_isElementIndex 12 = .ok (.iconst 1, 1) := dk_4 (dk_at dksJ12_isElementIndex_0 12 rfl rfl)
theorem dJ12_isElementIndex_13 : decode cJ12_isElementIndex 13 = .ok (.goto 4, 3) := dk_167 0 4 (dk_at dksJ12_isElementIndex_0 13 rfl rfl)
theorem dJ12_isElementIndex_16 : decode cJ12_isElementIndex 16 = .ok (.iconst 0, 1) := dk_3 (dk_at dksJ12_isElementIndex_0 16 rfl rfl)
theorem dJ12_isElementIndex_17 : decode cJ12_isElementIndex 17 = .ok (.ireturn, 1) := dk_172 (dk_at dksJ12_isElementIndex_0 17 rfl rfl)
theorem q102 : (Jvm.Cond.initialized "java/util/LinkedList") ∈ lw_all := lw_g (lw_at lw_m1 19 rfl) rfl
theorem q390 : (Jvm.Cond.instantiable "java/util/LinkedList" (4 : Nat)) ∈ lw_all := lw_g (lw_at lw_m2 67 rfl) rfl
theorem q392 : (Jvm.Cond.instanceMethod ({ cls := "java/util/LinkedList", name := "<init>", desc := "()V" } : Jvm.MethodName)) ∈ lw_all := lw_g (lw_at lw_m2 69 rfl) rfl
theorem q393 : (Jvm.Cond.code ({ cls := "java/util/LinkedList", name := "<init>", desc := "()V" } : Jvm.MethodName) prog_63_method_1_code (1 : Nat) (Option.none : Option Jvm.ClassFile.FieldType)) ∈ lw_all := lw_g (lw_at lw_m2 70 rfl) rfl
theorem q394 : (Jvm.Cond.methodLink "java/util/LinkedList" (1 : Nat) ({ cls := "java/util/AbstractSequentialList", name := "<init>", desc := "()V" } : Jvm.MethodName)) ∈ lw_all := lw_g (lw_at lw_m2 71 rfl) rfl
theorem q401 : (Jvm.Cond.fieldLink "java/util/LinkedList" (7 : Nat) "java/util/LinkedList" "size" "I") ∈ lw_all := lw_g (lw_at lw_m2 78 rfl) rfl
theorem q403 : (Jvm.Cond.fieldLink "java/util/LinkedList" (18 : Nat) "java/util/LinkedList" "first" "Ljava/util/LinkedList$Node;") ∈ lw_all := lw_g (lw_at lw_m2 80 rfl) rfl
theorem q404 : (Jvm.Cond.fieldLink "java/util/LinkedList" (27 : Nat) "java/util/LinkedList" "last" "Ljava/util/LinkedList$Node;") ∈ lw_all := lw_g (lw_at lw_m2 81 rfl) rfl
theorem q407 : (Jvm.Cond.sameField "java/util/LinkedList" "java/util/AbstractList" "modCount" "I") ∈ lw_all := lw_g (lw_at lw_m2 84 rfl) rfl
theorem q409 : (Jvm.Cond.fieldLink "java/util/LinkedList" (33 : Nat) "java/util/LinkedList" "modCount" "I") ∈ lw_all := lw_g (lw_at lw_m2 86 rfl) rfl
theorem q410 : (Jvm.Cond.lays "java/util/LinkedList" "java/util/LinkedList" "size" "I") ∈ lw_all := lw_g (lw_at lw_m2 87 rfl) rfl
theorem q411 : (Jvm.Cond.soleField "java/util/LinkedList" "size") ∈ lw_all := lw_g (lw_at lw_m2 88 rfl) rfl
theorem q412 : (Jvm.Cond.lays "java/util/LinkedList" "java/util/LinkedList" "first" "Ljava/util/LinkedList$Node;") ∈ lw_all := lw_g (lw_at lw_m2 89 rfl) rfl
theorem q413 : (Jvm.Cond.soleField "java/util/LinkedList" "first") ∈ lw_all := lw_g (lw_at lw_m2 90 rfl) rfl
theorem q414 : (Jvm.Cond.lays "java/util/LinkedList" "java/util/LinkedList" "last" "Ljava/util/LinkedList$Node;") ∈ lw_all := lw_g (lw_at lw_m2 91 rfl) rfl
theorem q415 : (Jvm.Cond.soleField "java/util/LinkedList" "last") ∈ lw_all := lw_g (lw_at lw_m2 92 rfl) rfl
theorem q416 : (Jvm.Cond.lays "java/util/LinkedList" "java/util/AbstractList" "modCount" "I") ∈ lw_all := lw_g (lw_at lw_m2 93 rfl) rfl
theorem q418 : (Jvm.Cond.superclass "java/util/LinkedList" "java/util/AbstractSequentialList") ∈ lw_all := lw_g (lw_at lw_m2 95 rfl) rfl
theorem q526 : (Jvm.Cond.selects "java/util/LinkedList" ({ cls := "java/lang/Object", name := "getClass", desc := "()Ljava/lang/Class;" } : Jvm.MethodName) ({ cls := "java/lang/Object", name := "getClass", desc := "()Ljava/lang/Class;" } : Jvm.MethodName)) ∈ lw_all := lw_g (lw_at lw_m2 203 rfl) rfl
theorem q1746 : (Jvm.Cond.instanceMethod ({ cls := "java/util/LinkedList", name := "clear", desc := "()V" } : Jvm.MethodName)) ∈ lw_all := lw_g (lw_at lw_m7 223 rfl) rfl
theorem q1747 : (Jvm.Cond.selects "java/util/LinkedList" ({ cls := "java/util/LinkedList", name := "clear", desc := "()V" } : Jvm.MethodName) ({ cls := "java/util/LinkedList", name := "clear", desc := "()V" } : Jvm.MethodName)) ∈ lw_all := lw_g (lw_at lw_m7 224 rfl) rfl
theorem q1748 : (Jvm.Cond.code ({ cls := "java/util/LinkedList", name := "clear", desc := "()V" } : Jvm.MethodName) prog_63_method_21_code (3 : Nat) (Option.none : Option Jvm.ClassFile.FieldType)) ∈ lw_all := lw_g (lw_at lw_m7 225 rfl) rfl
theorem q1853 : (Jvm.Cond.instanceMethod ({ cls := "java/util/LinkedList", name := "addLast", desc := "(Ljava/lang/Object;)V" } : Jvm.MethodName)) ∈ lw_all := lw_g (lw_at lw_m8 90 rfl) rfl
theorem q1854 : (Jvm.Cond.selects "java/util/LinkedList" ({ cls := "java/util/LinkedList", name := "addLast", desc := "(Ljava/lang/Object;)V" } : Jvm.MethodName) ({ cls := "java/util/LinkedList", name := "addLast", desc := "(Ljava/lang/Object;)V" } : Jvm.MethodName)) ∈ lw_all := lw_g (lw_at lw_m8 91 rfl) rfl
theorem q1855 : (Jvm.Cond.code ({ cls := "java/util/LinkedList", name := "addLast", desc := "(Ljava/lang/Object;)V" } : Jvm.MethodName) prog_63_method_14_code (2 : Nat) (Option.none : Option Jvm.ClassFile.FieldType)) ∈ lw_all := lw_g (lw_at lw_m8 92 rfl) rfl
theorem q1856 : (Jvm.Cond.methodLink "java/util/LinkedList" (57 : Nat) ({ cls := "java/util/LinkedList", name := "linkLast", desc := "(Ljava/lang/Object;)V" } : Jvm.MethodName)) ∈ lw_all := lw_g (lw_at lw_m8 93 rfl) rfl
theorem q1857 : (Jvm.Cond.instanceMethod ({ cls := "java/util/LinkedList", name := "linkLast", desc := "(Ljava/lang/Object;)V" } : Jvm.MethodName)) ∈ lw_all := lw_g (lw_at lw_m8 94 rfl) rfl
theorem q1858 : (Jvm.Cond.selects "java/util/LinkedList" ({ cls := "java/util/LinkedList", name := "linkLast", desc := "(Ljava/lang/Object;)V" } : Jvm.MethodName) ({ cls := "java/util/LinkedList", name := "linkLast", desc := "(Ljava/lang/Object;)V" } : Jvm.MethodName)) ∈ lw_all := lw_g (lw_at lw_m8 95 rfl) rfl
theorem q1859 : (Jvm.Cond.code ({ cls := "java/util/LinkedList", name := "linkLast", desc := "(Ljava/lang/Object;)V" } : Jvm.MethodName) prog_63_method_4_code (4 : Nat) (Option.none : Option Jvm.ClassFile.FieldType)) ∈ lw_all := lw_g (lw_at lw_m8 96 rfl) rfl
theorem q1860 : (Jvm.Cond.classLink "java/util/LinkedList" (22 : Nat) "java/util/LinkedList$Node") ∈ lw_all := lw_g (lw_at lw_m8 97 rfl) rfl
theorem q1862 : (Jvm.Cond.methodLink "java/util/LinkedList" (24 : Nat) ({ cls := "java/util/LinkedList$Node", name := "<init>", desc := "(Ljava/util/LinkedList$Node;Ljava/lang/Object;Ljava/util/LinkedList$Node;)V" } : Jvm.MethodName)) ∈ lw_all := lw_g (lw_at lw_m8 99 rfl) rfl
theorem q1868 : (Jvm.Cond.fieldLink "java/util/LinkedList" (39 : Nat) "java/util/LinkedList$Node" "item" "Ljava/lang/Object;") ∈ lw_all := lw_g (lw_at lw_m8 105 rfl) rfl
theorem q1871 : (Jvm.Cond.fieldLink "java/util/LinkedList" (36 : Nat) "java/util/LinkedList$Node" "next" "Ljava/util/LinkedList$Node;") ∈ lw_all := lw_g (lw_at lw_m8 108 rfl) rfl
theorem q1873 : (Jvm.Cond.fieldLink "java/util/LinkedList" (30 : Nat) "java/util/LinkedList$Node" "prev" "Ljava/util/LinkedList$Node;") ∈ lw_all := lw_g (lw_at lw_m8 110 rfl) rfl
theorem q1882 : (Jvm.Cond.sameMethod "java/util/LinkedList" "java/util/AbstractSequentialList" "iterator" "()Ljava/util/Iterator;") ∈ lw_all := lw_g (lw_at lw_m8 119 rfl) rfl
theorem q1884 : (Jvm.Cond.selects "java/util/LinkedList" ({ cls := "java/util/LinkedList", name := "iterator", desc := "()Ljava/util/Iterator;" } : Jvm.MethodName) ({ cls := "java/util/AbstractSequentialList", name := "iterator", desc := "()Ljava/util/Iterator;" } : Jvm.MethodName)) ∈ lw_all := lw_g (lw_at lw_m8 121 rfl) rfl
theorem q1890 : (Jvm.Cond.selects "java/util/LinkedList" ({ cls := "java/util/AbstractSequentialList", name := "listIterator", desc := "()Ljava/util/ListIterator;" } : Jvm.MethodName) ({ cls := "java/util/AbstractList", name := "listIterator", desc := "()Ljava/util/ListIterator;" } : Jvm.MethodName)) ∈ lw_all := lw_g (lw_at lw_m8 127 rfl) rfl
theorem q1896 : (Jvm.Cond.selects "java/util/LinkedList" ({ cls := "java/util/AbstractList", name := "listIterator", desc := "(I)Ljava/util/ListIterator;" } : Jvm.MethodName) ({ cls := "java/util/LinkedList", name := "listIterator", desc := "(I)Ljava/util/ListIterator;" } : Jvm.MethodName)) ∈ lw_all := lw_g (lw_at lw_m8 133 rfl) rfl
theorem q1897 : (Jvm.Cond.instanceMethod ({ cls := "java/util/LinkedList", name := "listIterator", desc := "(I)Ljava/util/ListIterator;" } : Jvm.MethodName)) ∈ lw_all := lw_g (lw_at lw_m8 134 rfl) rfl
theorem q1898 : (Jvm.Cond.code ({ cls := "java/util/LinkedList", name := "listIterator", desc := "(I)Ljava/util/ListIterator;" } : Jvm.MethodName) prog_63_method_49_code (2 : Nat) (Option.some (Jvm.ClassFile.FieldType.object "java/util/ListIterator"))) ∈ lw_all := lw_g (lw_at lw_m8 135 rfl) rfl
theorem q1899 : (Jvm.Cond.methodLink "java/util/LinkedList" (76 : Nat) ({ cls := "java/util/LinkedList", name := "checkPositionIndex", desc := "(I)V" } : Jvm.MethodName)) ∈ lw_all := lw_g (lw_at lw_m8 136 rfl) rfl
theorem q1900 : (Jvm.Cond.privateMethod ({ cls := "java/util/LinkedList", name := "checkPositionIndex", desc := "(I)V" } : Jvm.MethodName)) ∈ lw_tbl := lw_at lw_m8 137 rfl
theorem q1901 : (Jvm.Cond.instanceMethod ({ cls := "java/util/LinkedList", name := "checkPositionIndex", desc := "(I)V" } : Jvm.MethodName)) ∈ lw_all := lw_g (lw_at lw_m8 138 rfl) rfl
theorem q1902 : (Jvm.Cond.code ({ cls := "java/util/LinkedList", name := "checkPositionIndex", desc := "(I)V" } : Jvm.MethodName) prog_63_method_30_code (2 : Nat) (Option.none : Option Jvm.ClassFile.FieldType)) ∈ lw_all := lw_g (lw_at lw_m8 139 rfl) rfl
theorem q1903 : (Jvm.Cond.methodLink "java/util/LinkedList" (128 : Nat) ({ cls := "java/util/LinkedList", name := "isPositionIndex", desc := "(I)Z" } : Jvm.MethodName)) ∈ lw_all := lw_g (lw_at lw_m8 140 rfl) rfl
theorem q1904 : (Jvm.Cond.privateMethod ({ cls := "java/util/LinkedList", name := "isPositionIndex", desc := "(I)Z" } : Jvm.MethodName)) ∈ lw_tbl := lw_at lw_m8 141 rfl
theorem q1905 : (Jvm.Cond.instanceMethod ({ cls := "java/util/LinkedList", name := "isPositionIndex", desc := "(I)Z" } : Jvm.MethodName)) ∈ lw_all := lw_g (lw_at lw_m8 142 rfl) rfl
theorem q1906 : (Jvm.Cond.code ({ cls := "java/util/LinkedList", name := "isPositionIndex", desc := "(I)Z" } : Jvm.MethodName) prog_63_method_27_code (2 : Nat) (Option.some Jvm.ClassFile.FieldType.boolean)) ∈ lw_all := lw_g (lw_at lw_m8 143 rfl) rfl
theorem q1907 : (Jvm.Cond.classLink "java/util/LinkedList" (119 : Nat) "java/lang/IndexOutOfBoundsException") ∈ lw_all := lw_g (lw_at lw_m8 144 rfl) rfl
theorem q1908 : (Jvm.Cond.methodLink "java/util/LinkedList" (121 : Nat) ({ cls := "java/util/LinkedList", name := "outOfBoundsMsg", desc := "(I)Ljava/lang/String;" } : Jvm.MethodName)) ∈ lw_all := lw_g (lw_at lw_m8 145 rfl) rfl
theorem q1909 : (Jvm.Cond.privateMethod ({ cls := "java/util/LinkedList", name := "outOfBoundsMsg", desc := "(I)Ljava/lang/String;" } : Jvm.MethodName)) ∈ lw_tbl := lw_at lw_m8 146 rfl
theorem q1910 : (Jvm.Cond.instanceMethod ({ cls := "java/util/LinkedList", name := "outOfBoundsMsg", desc := "(I)Ljava/lang/String;" } : Jvm.MethodName)) ∈ lw_all := lw_g (lw_at lw_m8 147 rfl) rfl
theorem q1911 : (Jvm.Cond.code ({ cls := "java/util/LinkedList", name := "outOfBoundsMsg", desc := "(I)Ljava/lang/String;" } : Jvm.MethodName) prog_63_method_28_code (2 : Nat) (Option.some (Jvm.ClassFile.FieldType.object "java/lang/String"))) ∈ lw_all := lw_g (lw_at lw_m8 148 rfl) rfl
theorem q1912 : (Jvm.Cond.classLink "java/util/LinkedList" (97 : Nat) "java/lang/StringBuilder") ∈ lw_all := lw_g (lw_at lw_m8 149 rfl) rfl
theorem q1913 : (Jvm.Cond.methodLink "java/util/LinkedList" (99 : Nat) ({ cls := "java/lang/StringBuilder", name := "<init>", desc := "()V" } : Jvm.MethodName)) ∈ lw_all := lw_g (lw_at lw_m8 150 rfl) rfl
theorem q1914 : (Jvm.Cond.stringRef "java/util/LinkedList" (100 : Nat) "Index: ") ∈ lw_tbl := lw_at lw_m8 151 rfl
theorem q1915 : (Jvm.Cond.methodLink "java/util/LinkedList" (102 : Nat) ({ cls := "java/lang/StringBuilder", name := "append", desc := "(Ljava/lang/String;)Ljava/lang/StringBuilder;" } : Jvm.MethodName)) ∈ lw_all := lw_g (lw_at lw_m8 152 rfl) rfl
theorem q1916 : (Jvm.Cond.methodLink "java/util/LinkedList" (106 : Nat) ({ cls := "java/lang/StringBuilder", name := "append", desc := "(I)Ljava/lang/StringBuilder;" } : Jvm.MethodName)) ∈ lw_all := lw_g (lw_at lw_m8 153 rfl) rfl
theorem q1917 : (Jvm.Cond.stringRef "java/util/LinkedList" (109 : Nat) ", Size: ") ∈ lw_tbl := lw_at lw_m8 154 rfl
theorem q1918 : (Jvm.Cond.methodLink "java/util/LinkedList" (111 : Nat) ({ cls := "java/lang/StringBuilder", name := "toString", desc := "()Ljava/lang/String;" } : Jvm.MethodName)) ∈ lw_all := lw_g (lw_at lw_m8 155 rfl) rfl
theorem q1919 : (Jvm.Cond.methodLink "java/util/LinkedList" (125 : Nat) ({ cls := "java/lang/IndexOutOfBoundsException", name := "<init>", desc := "(Ljava/lang/String;)V" } : Jvm.MethodName)) ∈ lw_all := lw_g (lw_at lw_m8 156 rfl) rfl
theorem q1920 : (Jvm.Cond.classLink "java/util/LinkedList" (150 : Nat) "java/util/LinkedList$ListItr") ∈ lw_all := lw_g (lw_at lw_m8 157 rfl) rfl
theorem q1922 : (Jvm.Cond.methodLink "java/util/LinkedList" (152 : Nat) ({ cls := "java/util/LinkedList$ListItr", name := "<init>", desc := "(Ljava/util/LinkedList;I)V" } : Jvm.MethodName)) ∈ lw_all := lw_g (lw_at lw_m8 159 rfl) rfl
theorem q1927 : (Jvm.Cond.instanceMethod ({ cls := "java/util/LinkedList", name := "node", desc := "(I)Ljava/util/LinkedList$Node;" } : Jvm.MethodName)) ∈ lw_all := lw_g (lw_at lw_m8 164 rfl) rfl
theorem q1928 : (Jvm.Cond.selects "java/util/LinkedList" ({ cls := "java/util/LinkedList", name := "node", desc := "(I)Ljava/util/LinkedList$Node;" } : Jvm.MethodName) ({ cls := "java/util/LinkedList", name := "node", desc := "(I)Ljava/util/LinkedList$Node;" } : Jvm.MethodName)) ∈ lw_all := lw_g (lw_at lw_m8 165 rfl) rfl
theorem q1929 : (Jvm.Cond.code ({ cls := "java/util/LinkedList", name := "node", desc := "(I)Ljava/util/LinkedList$Node;" } : Jvm.MethodName) prog_63_method_31_code (4 : Nat) (Option.some (Jvm.ClassFile.FieldType.object "java/util/LinkedList$Node"))) ∈ lw_all := lw_g (lw_at lw_m8 166 rfl) rfl
theorem q1960 : (Jvm.Cond.selects "java/util/LinkedList" ({ cls := "java/util/AbstractList", name := "size", desc := "()I" } : Jvm.MethodName) ({ cls := "java/util/LinkedList", name := "size", desc := "()I" } : Jvm.MethodName)) ∈ lw_all := lw_g (lw_at lw_m8 197 rfl) rfl
theorem q1961 : (Jvm.Cond.instanceMethod ({ cls := "java/util/LinkedList", name := "size", desc := "()I" } : Jvm.MethodName)) ∈ lw_all := lw_g (lw_at lw_m8 198 rfl) rfl
theorem q1962 : (Jvm.Cond.code ({ cls := "java/util/LinkedList", name := "size", desc := "()I" } : Jvm.MethodName) prog_63_method_16_code (1 : Nat) (Option.some Jvm.ClassFile.FieldType.int)) ∈ lw_all := lw_g (lw_at lw_m8 199 rfl) rfl
theorem q2001 : (Jvm.Cond.selects "java/util/LinkedList" ({ cls := "java/util/AbstractList", name := "get", desc := "(I)Ljava/lang/Object;" } : Jvm.MethodName) ({ cls := "java/util/LinkedList", name := "get", desc := "(I)Ljava/lang/Object;" } : Jvm.MethodName)) ∈ lw_all := lw_g (lw_at lw_m8 238 rfl) rfl
theorem q2002 : (Jvm.Cond.instanceMethod ({ cls := "java/util/LinkedList", name := "get", desc := "(I)Ljava/lang/Object;" } : Jvm.MethodName)) ∈ lw_all := lw_g (lw_at lw_m8 239 rfl) rfl
theorem q2003 : (Jvm.Cond.code ({ cls := "java/util/LinkedList", name := "get", desc := "(I)Ljava/lang/Object;" } : Jvm.MethodName) prog_63_method_22_code (2 : Nat) (Option.some (Jvm.ClassFile.FieldType.object "java/lang/Object"))) ∈ lw_all := lw_g (lw_at lw_m9 0 rfl) rfl
theorem q2004 : (Jvm.Cond.methodLink "java/util/LinkedList" (90 : Nat) ({ cls := "java/util/LinkedList", name := "checkElementIndex", desc := "(I)V" } : Jvm.MethodName)) ∈ lw_all := lw_g (lw_at lw_m9 1 rfl) rfl
theorem q2005 : (Jvm.Cond.privateMethod ({ cls := "java/util/LinkedList", name := "checkElementIndex", desc := "(I)V" } : Jvm.MethodName)) ∈ lw_tbl := lw_at lw_m9 2 rfl
theorem q2006 : (Jvm.Cond.instanceMethod ({ cls := "java/util/LinkedList", name := "checkElementIndex", desc := "(I)V" } : Jvm.MethodName)) ∈ lw_all := lw_g (lw_at lw_m9 3 rfl) rfl
theorem q2007 : (Jvm.Cond.code ({ cls := "java/util/LinkedList", name := "checkElementIndex", desc := "(I)V" } : Jvm.MethodName) prog_63_method_29_code (2 : Nat) (Option.none : Option Jvm.ClassFile.FieldType)) ∈ lw_all := lw_g (lw_at lw_m9 4 rfl) rfl
theorem q2008 : (Jvm.Cond.methodLink "java/util/LinkedList" (115 : Nat) ({ cls := "java/util/LinkedList", name := "isElementIndex", desc := "(I)Z" } : Jvm.MethodName)) ∈ lw_all := lw_g (lw_at lw_m9 5 rfl) rfl
theorem q2009 : (Jvm.Cond.privateMethod ({ cls := "java/util/LinkedList", name := "isElementIndex", desc := "(I)Z" } : Jvm.MethodName)) ∈ lw_tbl := lw_at lw_m9 6 rfl
theorem q2010 : (Jvm.Cond.instanceMethod ({ cls := "java/util/LinkedList", name := "isElementIndex", desc := "(I)Z" } : Jvm.MethodName)) ∈ lw_all := lw_g (lw_at lw_m9 7 rfl) rfl
theorem q2011 : (Jvm.Cond.code ({ cls := "java/util/LinkedList", name := "isElementIndex", desc := "(I)Z" } : Jvm.MethodName) prog_63_method_26_code (2 : Nat) (Option.some Jvm.ClassFile.FieldType.boolean)) ∈ lw_all := lw_g (lw_at lw_m9 8 rfl) rfl
theorem q2012 : (Jvm.Cond.methodLink "java/util/LinkedList" (86 : Nat) ({ cls := "java/util/LinkedList", name := "node", desc := "(I)Ljava/util/LinkedList$Node;" } : Jvm.MethodName)) ∈ lw_all := lw_g (lw_at lw_m9 9 rfl) rfl
theorem q2766 : (Jvm.Cond.selects "java/util/LinkedList" ({ cls := "java/util/LinkedList", name := "size", desc := "()I" } : Jvm.MethodName) ({ cls := "java/util/LinkedList", name := "size", desc := "()I" } : Jvm.MethodName)) ∈ lw_all := lw_g (lw_at lw_m12 43 rfl) rfl
theorem q2794 : (Jvm.Cond.castable "java/util/LinkedList" "java/lang/Object") ∈ lw_tbl := lw_at lw_m12 71 rfl
theorem in_J12 : ∀ w ∈ wsJ120, w ∈ lw_all := lw_in wsJ120 [416, 410, 412, 414] (by decide +kernel) (by decide +kernel)
/-! java/lang/NullPointerException -/
set_option maxRecDepth 100000
def RJ13 : String := "java/lang/NullPointerException"
def TJ13 : u_T := fun k => match k with
  | 0 => ("java/lang/Throwable", "cause", "Ljava/lang/Throwable;", false)
  | 1 => ("java/lang/Throwable", "stackTrace", "[Ljava/lang/StackTraceElement;", false)
  | 2 => ("java/lang/Throwable", "suppressedExceptions", "Ljava/util/List;", false)
  | 3 => ("java/lang/Throwable", "detailMessage", "Ljava/lang/String;", false)
  | 4 => ("java/lang/Throwable", "backtrace", "Ljava/lang/Object;", false)
  | 5 => ("java/lang/Throwable", "depth", "I", false)
  | 6 => ("java/lang/NullPointerException", "extendedMessageState", "I", false)
  | _ => ("java/lang/NullPointerException", "extendedMessage", "Ljava/lang/String;", false)
def tyJ13 : Nat → FieldType := fun k => match k with
  | 0 => .object "java/lang/Throwable"
  | 1 => .array (.object "java/lang/StackTraceElement")
  | 2 => .object "java/util/List"
  | 3 => .object "java/lang/String"
  | 4 => .object "java/lang/Object"
  | 5 => .int
  | 6 => .int
  | _ => .object "java/lang/String"
abbrev wsJ130 : List Cond := u_ws RJ13 TJ13 8
theorem nmJ13 : ∀ a, a < 8 → ∀ b, b < 8 → a ≠ b → (TJ13 a).2.1 ≠ (TJ13 b).2.1 := by decide +kernel
theorem tyJ13_ok : ∀ k, k < 8 → parseFieldDescriptor (TJ13 k).2.2.1 = some (tyJ13 k) := by decide +kernel
abbrev cJ13_init : ByteArray := prog_32_method_1_code
def yJ13_init : MethodName := ⟨RJ13, "<init>", "()V"⟩
theorem dJ13_init_0 : decode cJ13_init 0 = .ok (.aload_n 0, 1) := by decide +kernel
theorem dJ13_init_1 : decode cJ13_init 1 = .ok (.invokespecial 1, 3) := by decide +kernel
theorem dJ13_init_4 : decode cJ13_init 4 = .ok (.return_, 1) := by decide +kernel
abbrev cJ13_getMessage : ByteArray := prog_32_method_4_code
def yJ13_getMessage : MethodName := ⟨RJ13, "getMessage", "()Ljava/lang/String;"⟩
def dkwJ13_getMessage_2 : List UInt8 := [176]
abbrev dktJ13_getMessage_2 : List UInt8 := dkwJ13_getMessage_2 ++ []
def dkwJ13_getMessage_1 : List UInt8 := [182, 0, 16, 181, 0, 20, 42, 5, 181, 0, 10, 42, 180, 0, 20, 44, 195, 176, 78, 44, 195, 45, 191, 43]
abbrev dktJ13_getMessage_1 : List UInt8 := dkwJ13_getMessage_1 ++ dktJ13_getMessage_2
def dkwJ13_getMessage_0 : List UInt8 := [42, 183, 0, 28, 76, 43, 199, 0, 40, 42, 89, 77, 194, 42, 180, 0, 10, 4, 160, 0, 16, 42, 42]
abbrev dktJ13_getMessage_0 : List UInt8 := dkwJ13_getMessage_0 ++ dktJ13_getMessage_1
theorem dksJ13_getMessage_0 : cJ13_getMessage.data.toList.drop 0 = dktJ13_getMessage_0 := by decide +kernel
theorem dksJ13_getMessage_1 : cJ13_getMessage.data.toList.drop 23 = dktJ13_getMessage_1 := dk_seg dksJ13_getMessage_0 23 rfl rfl
theorem dksJ13_getMessage_2 : cJ13_getMessage.data.toList.drop 47 = dktJ13_getMessage_2 := dk_seg dksJ13_getMessage_1 24 rfl rfl
theorem dJ13_getMessage_0 : decode cJ13_getMessage 0 = .ok (.aload_n 0, 1) := dk_42 (dk_at dksJ13_getMessage_0 0 rfl rfl)
theorem dJ13_getMessage_1 : decode cJ13_getMessage 1 = .ok (.invokespecial 28, 3) := dk_183 0 28 (dk_at dksJ13_getMessage_0 1 rfl rfl)
theorem dJ13_getMessage_4 : decode cJ13_getMessage 4 = .ok (.astore_n 1, 1) := dk_76 (dk_at dksJ13_getMessage_0 4 rfl rfl)
theorem dJ13_getMessage_5 : decode cJ13_getMessage 5 = .ok (.aload_n 1, 1) := dk_43 (dk_at dksJ13_getMessage_0 5 rfl rfl)
theorem dJ13_getMessage_6 : decode cJ13_getMessage 6 = .ok (.ifnonnull 40, 3) := dk_199 0 40 (dk_at dksJ13_getMessage_0 6 rfl rfl)
theorem dJ13_getMessage_9 : decode cJ13_getMessage 9 = .ok (.aload_n 0, 1) := dk_42 (dk_at dksJ13_getMessage_0 9 rfl rfl)
theorem dJ13_getMessage_10 : decode cJ13_getMessage 10 = .ok (.dup, 1) := dk_89 (dk_at dksJ13_getMessage_0 10 rfl rfl)
theorem dJ13_getMessage_11 : decode cJ13_getMessage 11 = .ok (.astore_n 2, 1) := dk_77 (dk_at dksJ13_getMessage_0 11 rfl rfl)
theorem dJ13_getMessage_12 : decode cJ13_getMessage 12 = .ok (.monitorenter, 1) := dk_194 (dk_at dksJ13_getMessage_0 12 rfl rfl)
theorem dJ13_getMessage_13 : decode cJ13_getMessage 13 = .ok (.aload_n 0, 1) := dk_42 (dk_at dksJ13_getMessage_0 13 rfl rfl)
theorem dJ13_getMessage_14 : decode cJ13_getMessage 14 = .ok (.getfield 10, 3) := dk_180 0 10 (dk_at dksJ13_getMessage_0 14 rfl rfl)
theorem dJ13_getMessage_17 : decode cJ13_getMessage 17 = .ok (.iconst 1, 1) := dk_4 (dk_at dksJ13_getMessage_0 17 rfl rfl)
theorem dJ13_getMessage_18 : decode cJ13_getMessage 18 = .ok (.if_icmp .ne 16, 3) := dk_160 0 16 (dk_at dksJ13_getMessage_0 18 rfl rfl)
theorem dJ13_getMessage_21 : decode cJ13_getMessage 21 = .ok (.aload_n 0, 1) := dk_42 (dk_at dksJ13_getMessage_0 21 rfl rfl)
theorem dJ13_getMessage_22 : decode cJ13_getMessage 22 = .ok (.aload_n 0, 1) := dk_42 (dk_at dksJ13_getMessage_0 22 rfl rfl)
theorem dJ13_getMessage_23 : decode cJ13_getMessage 23 = .ok (.invokevirtual 16, 3) := dk_182 0 16 (dk_at dksJ13_getMessage_1 0 rfl rfl)
theorem dJ13_getMessage_26 : decode cJ13_getMessage 26 = .ok (.putfield 20, 3) := dk_181 0 20 (dk_at dksJ13_getMessage_1 3 rfl rfl)
theorem dJ13_getMessage_29 : decode cJ13_getMessage 29 = .ok (.aload_n 0, 1) := dk_42 (dk_at dksJ13_getMessage_1 6 rfl rfl)
theorem dJ13_getMessage_30 : decode cJ13_getMessage 30 = .ok (.iconst 2, 1) := dk_5 (dk_at dksJ13_getMessage_1 7 rfl rfl)
theorem dJ13_getMessage_31 : decode cJ13_getMessage 31 = .ok (.putfield 10, 3) := dk_181 0 10 (dk_at dksJ13_getMessage_1 8 rfl rfl)
theorem dJ13_getMessage_34 : decode cJ13_getMessage 34 = .ok (.aload_n 0, 1) := dk_42 (dk_at dksJ13_getMessage_1 11 rfl rfl)
theorem dJ13_getMessage_35 : decode cJ13_getMessage 35 = .ok (.getfield 20, 3) := dk_180 0 20 (dk_at dksJ13_getMessage_1 12 rfl rfl)
theorem dJ13_getMessage_38 : decode cJ13_getMessage 38 = .ok (.aload_n 2, 1) := dk_44 (dk_at dksJ13_getMessage_1 15 rfl rfl)
theorem dJ13_getMessage_39 : decode cJ13_getMessage 39 = .ok (.monitorexit, 1) := dk_195 (dk_at dksJ13_getMessage_1 16 rfl rfl)
theorem dJ13_getMessage_40 : decode cJ13_getMessage 40 = .ok (.areturn, 1) := dk_176 (dk_at dksJ13_getMessage_1 17 rfl rfl)
theorem dJ13_getMessage_41 : decode cJ13_getMessage 41 = .ok (.astore_n 3, 1) := dk_78 (dk_at dksJ13_getMessage_1 18 rfl rfl)
theorem dJ13_getMessage_42 : decode cJ13_getMessage 42 = .ok (.aload_n 2, 1) := dk_44 (dk_at dksJ13_getMessage_1 19 rfl rfl)
theorem dJ13_getMessage_43 : decode cJ13_getMessage 43 = .ok (.monitorexit, 1) := dk_195 (dk_at dksJ13_getMessage_1 20 rfl rfl)
theorem dJ13_getMessage_44 : decode cJ13_getMessage 44 = .ok (.aload_n 3, 1) := dk_45 (dk_at dksJ13_getMessage_1 21 rfl rfl)
theorem dJ13_getMessage_45 : decode cJ13_getMessage 45 = .ok (.athrow, 1) := dk_191 (dk_at dksJ13_getMessage_1 22 rfl rfl)
theorem dJ13_getMessage_46 : decode cJ13_getMessage 46 = .ok (.aload_n 1, 1) := dk_43 (dk_at dksJ13_getMessage_1 23 rfl rfl)
theorem dJ13_getMessage_47 : decode cJ13_getMessage 47 = .ok (.areturn, 1) := dk_176 (dk_at dksJ13_getMessage_2 0 rfl rfl)
theorem q103 : (Jvm.Cond.initialized "java/lang/NullPointerException") ∈ lw_all := lw_g (lw_at lw_m1 20 rfl) rfl
theorem q320 : (Jvm.Cond.selects "java/lang/NullPointerException" ({ cls := "java/lang/Throwable", name := "fillInStackTrace", desc := "()Ljava/lang/Throwable;" } : Jvm.MethodName) ({ cls := "java/lang/NullPointerException", name := "fillInStackTrace", desc := "()Ljava/lang/Throwable;" } : Jvm.MethodName)) ∈ lw_all := lw_g (lw_at lw_m1 237 rfl) rfl
theorem q321 : (Jvm.Cond.instanceMethod ({ cls := "java/lang/NullPointerException", name := "fillInStackTrace", desc := "()Ljava/lang/Throwable;" } : Jvm.MethodName)) ∈ lw_all := lw_g (lw_at lw_m1 238 rfl) rfl
theorem q322 : (Jvm.Cond.codeSync ({ cls := "java/lang/NullPointerException", name := "fillInStackTrace", desc := "()Ljava/lang/Throwable;" } : Jvm.MethodName) prog_32_method_3_code (1 : Nat) (Option.some (Jvm.ClassFile.FieldType.object "java/lang/Throwable"))) ∈ lw_all := lw_g (lw_at lw_m1 239 rfl) rfl
theorem q323 : (Jvm.Cond.methodLink "java/lang/NullPointerException" (16 : Nat) ({ cls := "java/lang/NullPointerException", name := "getExtendedNPEMessage", desc := "()Ljava/lang/String;" } : Jvm.MethodName)) ∈ lw_all := lw_g (lw_at lw_m2 0 rfl) rfl
theorem q324 : (Jvm.Cond.privateMethod ({ cls := "java/lang/NullPointerException", name := "getExtendedNPEMessage", desc := "()Ljava/lang/String;" } : Jvm.MethodName)) ∈ lw_tbl := lw_at lw_m2 1 rfl
theorem q325 : (Jvm.Cond.instanceMethod ({ cls := "java/lang/NullPointerException", name := "getExtendedNPEMessage", desc := "()Ljava/lang/String;" } : Jvm.MethodName)) ∈ lw_all := lw_g (lw_at lw_m2 2 rfl) rfl
theorem q326 : (Jvm.Cond.instantiable "java/lang/NullPointerException" (8 : Nat)) ∈ lw_all := lw_g (lw_at lw_m2 3 rfl) rfl
theorem q327 : (Jvm.Cond.native ({ cls := "java/lang/NullPointerException", name := "getExtendedNPEMessage", desc := "()Ljava/lang/String;" } : Jvm.MethodName)) ∈ lw_all := lw_g (lw_at lw_m2 4 rfl) rfl
theorem q328 : (Jvm.Cond.methodLink "java/lang/NullPointerException" (24 : Nat) ({ cls := "java/lang/RuntimeException", name := "fillInStackTrace", desc := "()Ljava/lang/Throwable;" } : Jvm.MethodName)) ∈ lw_all := lw_g (lw_at lw_m2 5 rfl) rfl
theorem q331 : (Jvm.Cond.superclass "java/lang/NullPointerException" "java/lang/RuntimeException") ∈ lw_all := lw_g (lw_at lw_m2 8 rfl) rfl
theorem q435 : (Jvm.Cond.castable "java/lang/NullPointerException" "java/lang/NullPointerException") ∈ lw_tbl := lw_at lw_m2 112 rfl
theorem q436 : (Jvm.Cond.selects "java/lang/NullPointerException" ({ cls := "java/lang/Throwable", name := "fillInStackTrace", desc := "(I)Ljava/lang/Throwable;" } : Jvm.MethodName) ({ cls := "java/lang/Throwable", name := "fillInStackTrace", desc := "(I)Ljava/lang/Throwable;" } : Jvm.MethodName)) ∈ lw_all := lw_g (lw_at lw_m2 113 rfl) rfl
theorem q437 : (Jvm.Cond.lays "java/lang/NullPointerException" "java/lang/Throwable" "cause" "Ljava/lang/Throwable;") ∈ lw_all := lw_g (lw_at lw_m2 114 rfl) rfl
theorem q438 : (Jvm.Cond.lays "java/lang/NullPointerException" "java/lang/Throwable" "stackTrace" "[Ljava/lang/StackTraceElement;") ∈ lw_all := lw_g (lw_at lw_m2 115 rfl) rfl
theorem q439 : (Jvm.Cond.lays "java/lang/NullPointerException" "java/lang/Throwable" "suppressedExceptions" "Ljava/util/List;") ∈ lw_all := lw_g (lw_at lw_m2 116 rfl) rfl
theorem q440 : (Jvm.Cond.lays "java/lang/NullPointerException" "java/lang/Throwable" "detailMessage" "Ljava/lang/String;") ∈ lw_all := lw_g (lw_at lw_m2 117 rfl) rfl
theorem q441 : (Jvm.Cond.lays "java/lang/NullPointerException" "java/lang/Throwable" "backtrace" "Ljava/lang/Object;") ∈ lw_all := lw_g (lw_at lw_m2 118 rfl) rfl
theorem q443 : (Jvm.Cond.instanceMethod ({ cls := "java/lang/NullPointerException", name := "<init>", desc := "()V" } : Jvm.MethodName)) ∈ lw_all := lw_g (lw_at lw_m2 120 rfl) rfl
theorem q444 : (Jvm.Cond.code ({ cls := "java/lang/NullPointerException", name := "<init>", desc := "()V" } : Jvm.MethodName) prog_32_method_1_code (1 : Nat) (Option.none : Option Jvm.ClassFile.FieldType)) ∈ lw_all := lw_g (lw_at lw_m2 121 rfl) rfl
theorem q445 : (Jvm.Cond.methodLink "java/lang/NullPointerException" (1 : Nat) ({ cls := "java/lang/RuntimeException", name := "<init>", desc := "()V" } : Jvm.MethodName)) ∈ lw_all := lw_g (lw_at lw_m2 122 rfl) rfl
theorem q446 : (Jvm.Cond.fieldLink "java/lang/NullPointerException" (10 : Nat) "java/lang/NullPointerException" "extendedMessageState" "I") ∈ lw_all := lw_g (lw_at lw_m2 123 rfl) rfl
theorem q447 : (Jvm.Cond.fieldLink "java/lang/NullPointerException" (20 : Nat) "java/lang/NullPointerException" "extendedMessage" "Ljava/lang/String;") ∈ lw_all := lw_g (lw_at lw_m2 124 rfl) rfl
theorem q448 : (Jvm.Cond.lays "java/lang/NullPointerException" "java/lang/NullPointerException" "extendedMessageState" "I") ∈ lw_all := lw_g (lw_at lw_m2 125 rfl) rfl
theorem q449 : (Jvm.Cond.soleField "java/lang/NullPointerException" "extendedMessageState") ∈ lw_all := lw_g (lw_at lw_m2 126 rfl) rfl
theorem q450 : (Jvm.Cond.lays "java/lang/NullPointerException" "java/lang/NullPointerException" "extendedMessage" "Ljava/lang/String;") ∈ lw_all := lw_g (lw_at lw_m2 127 rfl) rfl
theorem q451 : (Jvm.Cond.soleField "java/lang/NullPointerException" "extendedMessage") ∈ lw_all := lw_g (lw_at lw_m2 128 rfl) rfl
theorem q452 : (Jvm.Cond.lays "java/lang/NullPointerException" "java/lang/Throwable" "depth" "I") ∈ lw_all := lw_g (lw_at lw_m2 129 rfl) rfl
theorem q515 : (Jvm.Cond.selects "java/lang/NullPointerException" ({ cls := "java/lang/Object", name := "getClass", desc := "()Ljava/lang/Class;" } : Jvm.MethodName) ({ cls := "java/lang/Object", name := "getClass", desc := "()Ljava/lang/Class;" } : Jvm.MethodName)) ∈ lw_all := lw_g (lw_at lw_m2 192 rfl) rfl
theorem q2038 : (Jvm.Cond.selects "java/lang/NullPointerException" ({ cls := "java/lang/Throwable", name := "toString", desc := "()Ljava/lang/String;" } : Jvm.MethodName) ({ cls := "java/lang/Throwable", name := "toString", desc := "()Ljava/lang/String;" } : Jvm.MethodName)) ∈ lw_all := lw_g (lw_at lw_m9 35 rfl) rfl
theorem q2057 : (Jvm.Cond.selects "java/lang/NullPointerException" ({ cls := "java/lang/Throwable", name := "getLocalizedMessage", desc := "()Ljava/lang/String;" } : Jvm.MethodName) ({ cls := "java/lang/Throwable", name := "getLocalizedMessage", desc := "()Ljava/lang/String;" } : Jvm.MethodName)) ∈ lw_all := lw_g (lw_at lw_m9 54 rfl) rfl
theorem q2075 : (Jvm.Cond.selects "java/lang/NullPointerException" ({ cls := "java/lang/Throwable", name := "getMessage", desc := "()Ljava/lang/String;" } : Jvm.MethodName) ({ cls := "java/lang/NullPointerException", name := "getMessage", desc := "()Ljava/lang/String;" } : Jvm.MethodName)) ∈ lw_all := lw_g (lw_at lw_m9 72 rfl) rfl
theorem q2076 : (Jvm.Cond.instanceMethod ({ cls := "java/lang/NullPointerException", name := "getMessage", desc := "()Ljava/lang/String;" } : Jvm.MethodName)) ∈ lw_all := lw_g (lw_at lw_m9 73 rfl) rfl
theorem q2077 : (Jvm.Cond.codeWith ({ cls := "java/lang/NullPointerException", name := "getMessage", desc := "()Ljava/lang/String;" } : Jvm.MethodName) prog_32_method_4_code (4 : Nat) (Option.some (Jvm.ClassFile.FieldType.object "java/lang/String")) [((13 : Nat), (40 : Nat), (41 : Nat), (0 : Nat)), ((41 : Nat), (44 : Nat), (41 : Nat), (0 : Nat))]) ∈ lw_all := lw_g (lw_at lw_m9 74 rfl) rfl
theorem q2078 : (Jvm.Cond.methodLink "java/lang/NullPointerException" (28 : Nat) ({ cls := "java/lang/RuntimeException", name := "getMessage", desc := "()Ljava/lang/String;" } : Jvm.MethodName)) ∈ lw_all := lw_g (lw_at lw_m9 75 rfl) rfl
theorem q2779 : (Jvm.Cond.castable "java/lang/NullPointerException" "java/lang/RuntimeException") ∈ lw_tbl := lw_at lw_m12 56 rfl
theorem q2795 : (Jvm.Cond.castable "java/lang/NullPointerException" "java/lang/Object") ∈ lw_tbl := lw_at lw_m12 72 rfl
theorem in_J13 : ∀ w ∈ wsJ130, w ∈ lw_all := lw_in wsJ130 [437, 438, 439, 440, 441, 452, 448, 450] (by decide +kernel) (by decide +kernel)
/-! java/lang/IllegalStateException -/
set_option maxRecDepth 100000
def RJ14 : String := "java/lang/IllegalStateException"
def TJ14 : u_T := fun k => match k with
  | 0 => ("java/lang/Throwable", "cause", "Ljava/lang/Throwable;", false)
  | 1 => ("java/lang/Throwable", "stackTrace", "[Ljava/lang/StackTraceElement;", false)
  | 2 => ("java/lang/Throwable", "suppressedExceptions", "Ljava/util/List;", false)
  | 3 => ("java/lang/Throwable", "detailMessage", "Ljava/lang/String;", false)
  | 4 => ("java/lang/Throwable", "backtrace", "Ljava/lang/Object;", false)
  | _ => ("java/lang/Throwable", "depth", "I", false)
def tyJ14 : Nat → FieldType := fun k => match k with
  | 0 => .object "java/lang/Throwable"
  | 1 => .array (.object "java/lang/StackTraceElement")
  | 2 => .object "java/util/List"
  | 3 => .object "java/lang/String"
  | 4 => .object "java/lang/Object"
  | _ => .int
abbrev wsJ140 : List Cond := u_ws RJ14 TJ14 6
theorem nmJ14 : ∀ a, a < 6 → ∀ b, b < 6 → a ≠ b → (TJ14 a).2.1 ≠ (TJ14 b).2.1 := by decide +kernel
theorem tyJ14_ok : ∀ k, k < 6 → parseFieldDescriptor (TJ14 k).2.2.1 = some (tyJ14 k) := by decide +kernel
abbrev cJ14_init : ByteArray := prog_25_method_2_code
def yJ14_init : MethodName := ⟨RJ14, "<init>", "(Ljava/lang/String;)V"⟩
def dkwJ14_init_0 : List UInt8 := [42, 43, 183, 0, 7, 177]
abbrev dktJ14_init_0 : List UInt8 := dkwJ14_init_0 ++ []
theorem dksJ14_init_0 : cJ14_init.data.toList.drop 0 = dktJ14_init_0 := by decide +kernel
theorem dJ14_init_0 : decode cJ14_init 0 = .ok (.aload_n 0, 1) := dk_42 (dk_at dksJ14_init_0 0 rfl rfl)
theorem dJ14_init_1 : decode cJ14_init 1 = .ok (.aload_n 1, 1) := dk_43 (dk_at dksJ14_init_0 1 rfl rfl)
theorem dJ14_init_2 : decode cJ14_init 2 = .ok (.invokespecial 7, 3) := dk_183 0 7 (dk_at dksJ14_init_0 2 rfl rfl)
theorem dJ14_init_5 : decode cJ14_init 5 = .ok (.return_, 1) := dk_177 (dk_at dksJ14_init_0 5 rfl rfl)
abbrev cJ14_init_2 : ByteArray := prog_25_method_1_code
def yJ14_init_2 : MethodName := ⟨RJ14, "<init>", "()V"⟩
theorem dJ14_init_2_0 : decode cJ14_init_2 0 = .ok (.aload_n 0, 1) := by decide +kernel
theorem dJ14_init_2_1 : decode cJ14_init_2 1 = .ok (.invokespecial 1, 3) := by decide +kernel
theorem dJ14_init_2_4 : decode cJ14_init_2 4 = .ok (.return_, 1) := by decide +kernel
theorem q104 : (Jvm.Cond.initialized "java/lang/IllegalStateException") ∈ lw_all := lw_g (lw_at lw_m1 21 rfl) rfl
theorem q318 : (Jvm.Cond.selects "java/lang/IllegalStateException" ({ cls := "java/lang/Throwable", name := "fillInStackTrace", desc := "()Ljava/lang/Throwable;" } : Jvm.MethodName) ({ cls := "java/lang/Throwable", name := "fillInStackTrace", desc := "()Ljava/lang/Throwable;" } : Jvm.MethodName)) ∈ lw_all := lw_g (lw_at lw_m1 235 rfl) rfl
theorem q466 : (Jvm.Cond.instantiable "java/lang/IllegalStateException" (6 : Nat)) ∈ lw_all := lw_g (lw_at lw_m2 143 rfl) rfl
theorem q467 : (Jvm.Cond.castable "java/lang/IllegalStateException" "java/lang/IllegalStateException") ∈ lw_tbl := lw_at lw_m2 144 rfl
theorem q468 : (Jvm.Cond.selects "java/lang/IllegalStateException" ({ cls := "java/lang/Throwable", name := "fillInStackTrace", desc := "(I)Ljava/lang/Throwable;" } : Jvm.MethodName) ({ cls := "java/lang/Throwable", name := "fillInStackTrace", desc := "(I)Ljava/lang/Throwable;" } : Jvm.MethodName)) ∈ lw_all := lw_g (lw_at lw_m2 145 rfl) rfl
theorem q469 : (Jvm.Cond.lays "java/lang/IllegalStateException" "java/lang/Throwable" "cause" "Ljava/lang/Throwable;") ∈ lw_all := lw_g (lw_at lw_m2 146 rfl) rfl
theorem q470 : (Jvm.Cond.lays "java/lang/IllegalStateException" "java/lang/Throwable" "stackTrace" "[Ljava/lang/StackTraceElement;") ∈ lw_all := lw_g (lw_at lw_m2 147 rfl) rfl
theorem q471 : (Jvm.Cond.lays "java/lang/IllegalStateException" "java/lang/Throwable" "suppressedExceptions" "Ljava/util/List;") ∈ lw_all := lw_g (lw_at lw_m2 148 rfl) rfl
theorem q472 : (Jvm.Cond.lays "java/lang/IllegalStateException" "java/lang/Throwable" "detailMessage" "Ljava/lang/String;") ∈ lw_all := lw_g (lw_at lw_m2 149 rfl) rfl
theorem q473 : (Jvm.Cond.lays "java/lang/IllegalStateException" "java/lang/Throwable" "backtrace" "Ljava/lang/Object;") ∈ lw_all := lw_g (lw_at lw_m2 150 rfl) rfl
theorem q476 : (Jvm.Cond.instanceMethod ({ cls := "java/lang/IllegalStateException", name := "<init>", desc := "(Ljava/lang/String;)V" } : Jvm.MethodName)) ∈ lw_all := lw_g (lw_at lw_m2 153 rfl) rfl
theorem q477 : (Jvm.Cond.code ({ cls := "java/lang/IllegalStateException", name := "<init>", desc := "(Ljava/lang/String;)V" } : Jvm.MethodName) prog_25_method_2_code (2 : Nat) (Option.none : Option Jvm.ClassFile.FieldType)) ∈ lw_all := lw_g (lw_at lw_m2 154 rfl) rfl
theorem q478 : (Jvm.Cond.methodLink "java/lang/IllegalStateException" (7 : Nat) ({ cls := "java/lang/RuntimeException", name := "<init>", desc := "(Ljava/lang/String;)V" } : Jvm.MethodName)) ∈ lw_all := lw_g (lw_at lw_m2 155 rfl) rfl
theorem q487 : (Jvm.Cond.lays "java/lang/IllegalStateException" "java/lang/Throwable" "depth" "I") ∈ lw_all := lw_g (lw_at lw_m2 164 rfl) rfl
theorem q488 : (Jvm.Cond.superclass "java/lang/IllegalStateException" "java/lang/RuntimeException") ∈ lw_all := lw_g (lw_at lw_m2 165 rfl) rfl
theorem q511 : (Jvm.Cond.selects "java/lang/IllegalStateException" ({ cls := "java/lang/Object", name := "getClass", desc := "()Ljava/lang/Class;" } : Jvm.MethodName) ({ cls := "java/lang/Object", name := "getClass", desc := "()Ljava/lang/Class;" } : Jvm.MethodName)) ∈ lw_all := lw_g (lw_at lw_m2 188 rfl) rfl
theorem q1314 : (Jvm.Cond.instanceMethod ({ cls := "java/lang/IllegalStateException", name := "<init>", desc := "()V" } : Jvm.MethodName)) ∈ lw_all := lw_g (lw_at lw_m6 31 rfl) rfl
theorem q1315 : (Jvm.Cond.code ({ cls := "java/lang/IllegalStateException", name := "<init>", desc := "()V" } : Jvm.MethodName) prog_25_method_1_code (1 : Nat) (Option.none : Option Jvm.ClassFile.FieldType)) ∈ lw_all := lw_g (lw_at lw_m6 32 rfl) rfl
theorem q1316 : (Jvm.Cond.methodLink "java/lang/IllegalStateException" (1 : Nat) ({ cls := "java/lang/RuntimeException", name := "<init>", desc := "()V" } : Jvm.MethodName)) ∈ lw_all := lw_g (lw_at lw_m6 33 rfl) rfl
theorem q2035 : (Jvm.Cond.selects "java/lang/IllegalStateException" ({ cls := "java/lang/Throwable", name := "toString", desc := "()Ljava/lang/String;" } : Jvm.MethodName) ({ cls := "java/lang/Throwable", name := "toString", desc := "()Ljava/lang/String;" } : Jvm.MethodName)) ∈ lw_all := lw_g (lw_at lw_m9 32 rfl) rfl
theorem q2054 : (Jvm.Cond.selects "java/lang/IllegalStateException" ({ cls := "java/lang/Throwable", name := "getLocalizedMessage", desc := "()Ljava/lang/String;" } : Jvm.MethodName) ({ cls := "java/lang/Throwable", name := "getLocalizedMessage", desc := "()Ljava/lang/String;" } : Jvm.MethodName)) ∈ lw_all := lw_g (lw_at lw_m9 51 rfl) rfl
theorem q2072 : (Jvm.Cond.selects "java/lang/IllegalStateException" ({ cls := "java/lang/Throwable", name := "getMessage", desc := "()Ljava/lang/String;" } : Jvm.MethodName) ({ cls := "java/lang/Throwable", name := "getMessage", desc := "()Ljava/lang/String;" } : Jvm.MethodName)) ∈ lw_all := lw_g (lw_at lw_m9 69 rfl) rfl
theorem q2776 : (Jvm.Cond.castable "java/lang/IllegalStateException" "java/lang/RuntimeException") ∈ lw_tbl := lw_at lw_m12 53 rfl
theorem q2796 : (Jvm.Cond.castable "java/lang/IllegalStateException" "java/lang/Object") ∈ lw_tbl := lw_at lw_m12 73 rfl
theorem in_J14 : ∀ w ∈ wsJ140, w ∈ lw_all := lw_in wsJ140 [469, 470, 471, 472, 473, 487] (by decide +kernel) (by decide +kernel)
/-! java/util/Arrays -/
set_option maxRecDepth 100000
def RJ15 : String := "java/util/Arrays"
abbrev cJ15_copyOf : ByteArray := prog_53_method_119_code
def yJ15_copyOf : MethodName := ⟨RJ15, "copyOf", "([Ljava/lang/Object;I)[Ljava/lang/Object;"⟩
def dkwJ15_copyOf_0 : List UInt8 := [42, 27, 42, 182, 0, 86, 184, 1, 44, 176]
abbrev dktJ15_copyOf_0 : List UInt8 := dkwJ15_copyOf_0 ++ []
theorem dksJ15_copyOf_0 : cJ15_copyOf.data.toList.drop 0 = dktJ15_copyOf_0 := by decide +kernel
theorem dJ15_copyOf_0 : decode cJ15_copyOf 0 = .ok (.aload_n 0, 1) := dk_42 (dk_at dksJ15_copyOf_0 0 rfl rfl)
theorem dJ15_copyOf_1 : decode cJ15_copyOf 1 = .ok (.iload_n 1, 1) := dk_27 (dk_at dksJ15_copyOf_0 1 rfl rfl)
theorem dJ15_copyOf_2 : decode cJ15_copyOf 2 = .ok (.aload_n 0, 1) := dk_42 (dk_at dksJ15_copyOf_0 2 rfl rfl)
theorem dJ15_copyOf_3 : decode cJ15_copyOf 3 = .ok (.invokevirtual 86, 3) := dk_182 0 86 (dk_at dksJ15_copyOf_0 3 rfl rfl)
theorem dJ15_copyOf_6 : decode cJ15_copyOf 6 = .ok (.invokestatic 300, 3) := dk_184 1 44 (dk_at dksJ15_copyOf_0 6 rfl rfl)
theorem dJ15_copyOf_9 : decode cJ15_copyOf 9 = .ok (.areturn, 1) := dk_176 (dk_at dksJ15_copyOf_0 9 rfl rfl)
abbrev cJ15_copyOf_2 : ByteArray := prog_53_method_120_code
def yJ15_copyOf_2 : MethodName := ⟨RJ15, "copyOf", "([Ljava/lang/Object;ILjava/lang/Class;)[Ljava/lang/Object;"⟩
def dkwJ15_copyOf_2_1 : List UInt8 := [78, 42, 3, 45, 3, 42, 190, 27, 184, 1, 48, 184, 0, 150, 45, 176]
abbrev dktJ15_copyOf_2_1 : List UInt8 := dkwJ15_copyOf_2_1 ++ []
def dkwJ15_copyOf_2_0 : List UInt8 := [44, 18, 110, 166, 0, 10, 27, 189, 0, 2, 167, 0, 14, 44, 182, 0, 90, 27, 184, 0, 95, 192, 0, 110]
abbrev dktJ15_copyOf_2_0 : List UInt8 := dkwJ15_copyOf_2_0 ++ dktJ15_copyOf_2_1
theorem dksJ15_copyOf_2_0 : cJ15_copyOf_2.data.toList.drop 0 = dktJ15_copyOf_2_0 := by decide +kernel
theorem dksJ15_copyOf_2_1 : cJ15_copyOf_2.data.toList.drop 24 = dktJ15_copyOf_2_1 := dk_seg dksJ15_copyOf_2_0 24 rfl rfl
theorem dJ15_copyOf_2_0 : decode cJ15_copyOf_2 0 = .ok (.aload_n 2, 1) := dk_44 (dk_at dksJ15_copyOf_2_0 0 rfl rfl)
theorem dJ15_copyOf_2_1 : decode cJ15_copyOf_2 1 = .ok (.ldc 110, 2) := dk_18 110 (dk_at dksJ15_copyOf_2_0 1 rfl rfl)
theorem dJ15_copyOf_2_3 : decode cJ15_copyOf_2 3 = .ok (.if_acmp .ne 10, 3) := dk_166 0 10 (dk_at dksJ15_copyOf_2_0 3 rfl rfl)
theorem dJ15_copyOf_2_6 : decode cJ15_copyOf_2 6 = .ok (.iload_n 1, 1) := dk_27 (dk_at dksJ15_copyOf_2_0 6 rfl rfl)
theorem dJ15_copyOf_2_7 : decode cJ15_copyOf_2 7 = .ok (.anewarray 2, 3) := dk_189 0 2 (dk_at dksJ15_copyOf_2_0 7 rfl rfl)
theorem dJ15_copyOf_2_10 : decode cJ15_copyOf_2 10 = .ok (.goto 14, 3) := dk_167 0 14 (dk_at dksJ15_copyOf_2_0 10 rfl rfl)
theorem dJ15_copyOf_2_13 : decode cJ15_copyOf_2 13 = .ok (.aload_n 2, 1) := dk_44 (dk_at dksJ15_copyOf_2_0 13 rfl rfl)
theorem dJ15_copyOf_2_14 : decode cJ15_copyOf_2 14 = .ok (.invokevirtual 90, 3) := dk_182 0 90 (dk_at dksJ15_copyOf_2_0 14 rfl rfl)
theorem dJ15_copyOf_2_17 : decode cJ15_copyOf_2 17 = .ok (.iload_n 1, 1) := dk_27 (dk_at dksJ15_copyOf_2_0 17 rfl rfl)
theorem dJ15_copyOf_2_18 : decode cJ15_copyOf_2 18 = .ok (.invokestatic 95, 3) := dk_184 0 95 (dk_at dksJ15_copyOf_2_0 18 rfl rfl)
theorem dJ15_copyOf_2_21 : decode cJ15_copyOf_2 21 = .ok (.checkcast 110, 3) := dk_192 0 110 (dk_at dksJ15_copyOf_2_0 21 rfl rfl)
theorem dJ15_copyOf_2_24 : decode cJ15_copyOf_2 24 = .ok (.astore_n 3, 1) := dk_78 (dk_at dksJ15_copyOf_2_1 0 rfl rfl)
theorem dJ15_copyOf_2_25 : decode cJ15_copyOf_2 25 = .ok (.aload_n 0, 1) := dk_42 (dk_at dksJ15_copyOf_2_1 1 rfl rfl)
theorem dJ15_copyOf_2_26 : decode cJ15_copyOf_2 26 = .ok (.iconst 0, 1) := dk_3 (dk_at dksJ15_copyOf_2_1 2 rfl rfl)
theorem dJ15_copyOf_2_27 : decode cJ15_copyOf_2 27 = .ok (.aload_n 3, 1) := dk_45 (dk_at dksJ15_copyOf_2_1 3 rfl rfl)
theorem dJ15_copyOf_2_28 : decode cJ15_copyOf_2 28 = .ok (.iconst 0, 1) := dk_3 (dk_at dksJ15_copyOf_2_1 4 rfl rfl)
theorem dJ15_copyOf_2_29 : decode cJ15_copyOf_2 29 = .ok (.aload_n 0, 1) := dk_42 (dk_at dksJ15_copyOf_2_1 5 rfl rfl)
theorem dJ15_copyOf_2_30 : decode cJ15_copyOf_2 30 = .ok (.arraylength, 1) := dk_190 (dk_at dksJ15_copyOf_2_1 6 rfl rfl)
theorem dJ15_copyOf_2_31 : decode cJ15_copyOf_2 31 = .ok (.iload_n 1, 1) := dk_27 (dk_at dksJ15_copyOf_2_1 7 rfl rfl)
theorem dJ15_copyOf_2_32 : decode cJ15_copyOf_2 32 = .ok (.invokestatic 304, 3) := dk_184 1 48 (dk_at dksJ15_copyOf_2_1 8 rfl rfl)
theorem dJ15_copyOf_2_35 : decode cJ15_copyOf_2 35 = .ok (.invokestatic 150, 3) := dk_184 0 150 (dk_at dksJ15_copyOf_2_1 11 rfl rfl)
theorem dJ15_copyOf_2_38 : decode cJ15_copyOf_2 38 = .ok (.aload_n 3, 1) := dk_45 (dk_at dksJ15_copyOf_2_1 14 rfl rfl)
theorem dJ15_copyOf_2_39 : decode cJ15_copyOf_2 39 = .ok (.areturn, 1) := dk_176 (dk_at dksJ15_copyOf_2_1 15 rfl rfl)
abbrev cJ15_copyOf_3 : ByteArray := prog_53_method_121_code
def yJ15_copyOf_3 : MethodName := ⟨RJ15, "copyOf", "([BI)[B"⟩
def dkwJ15_copyOf_3_1 : List UInt8 := [27, 184, 1, 48, 184, 0, 150, 44, 176]
abbrev dktJ15_copyOf_3_1 : List UInt8 := dkwJ15_copyOf_3_1 ++ []
def dkwJ15_copyOf_3_0 : List UInt8 := [27, 42, 190, 160, 0, 11, 42, 182, 1, 54, 192, 1, 55, 176, 27, 188, 8, 77, 42, 3, 44, 3, 42, 190]
abbrev dktJ15_copyOf_3_0 : List UInt8 := dkwJ15_copyOf_3_0 ++ dktJ15_copyOf_3_1
theorem dksJ15_copyOf_3_0 : cJ15_copyOf_3.data.toList.drop 0 = dktJ15_copyOf_3_0 := by decide +kernel
theorem dksJ15_copyOf_3_1 : cJ15_copyOf_3.data.toList.drop 24 = dktJ15_copyOf_3_1 := dk_seg dksJ15_copyOf_3_0 24 rfl rfl
theorem dJ15_copyOf_3_0 : decode cJ15_copyOf_3 0 = .ok (.iload_n 1, 1) := dk_27 (dk_at dksJ15_copyOf_3_0 0 rfl rfl)
theorem dJ15_copyOf_3_1 : decode cJ15_copyOf_3 1 = .ok (.aload_n 0, 1) := dk_42 (dk_at dksJ15_copyOf_3_0 1 rfl rfl)
theorem dJ15_copyOf_3_2 : decode cJ15_copyOf_3 2 = .ok (.arraylength, 1) := dk_190 (dk_at dksJ15_copyOf_3_0 2 rfl rfl)
theorem dJ15_copyOf_3_3 : decode cJ15_copyOf_3 3 = .ok (.if_icmp .ne 11, 3) := dk_160 0 11 (dk_at dksJ15_copyOf_3_0 3 rfl rfl)
theorem dJ15_copyOf_3_6 : decode cJ15_copyOf_3 6 = .ok (.aload_n 0, 1) := dk_42 (dk_at dksJ15_copyOf_3_0 6 rfl rfl)
theorem dJ15_copyOf_3_7 : decode cJ15_copyOf_3 7 = .ok (.invokevirtual 310, 3) := dk_182 1 54 (dk_at dksJ15_copyOf_3_0 7 rfl rfl)
theorem dJ15_copyOf_3_10 : decode cJ15_copyOf_3 10 = .ok (.checkcast 311, 3) := dk_192 1 55 (dk_at dksJ15_copyOf_3_0 10 rfl rfl)
theorem dJ15_copyOf_3_13 : decode cJ15_copyOf_3 13 = .ok (.areturn, 1) := dk_176 (dk_at dksJ15_copyOf_3_0 13 rfl rfl)
theorem dJ15_copyOf_3_14 : decode cJ15_copyOf_3 14 = .ok (.iload_n 1, 1) := dk_27 (dk_at dksJ15_copyOf_3_0 14 rfl rfl)
theorem dJ15_copyOf_3_15 : decode cJ15_copyOf_3 15 = .ok (.newarray .byte, 2) := dk_188_8 (dk_at dksJ15_copyOf_3_0 15 rfl rfl)
theorem dJ15_copyOf_3_17 : decode cJ15_copyOf_3 17 = .ok (.astore_n 2, 1) := dk_77 (dk_at dksJ15_copyOf_3_0 17 rfl rfl)
theorem dJ15_copyOf_3_18 : decode cJ15_copyOf_3 18 = .ok (.aload_n 0, 1) := dk_42 (dk_at dksJ15_copyOf_3_0 18 rfl rfl)
theorem dJ15_copyOf_3_19 : decode cJ15_copyOf_3 19 = .ok (.iconst 0, 1) := dk_3 (dk_at dksJ15_copyOf_3_0 19 rfl rfl)
theorem dJ15_copyOf_3_20 : decode cJ15_copyOf_3 20 = .ok (.aload_n 2, 1) := dk_44 (dk_at dksJ15_copyOf_3_0 20 rfl rfl)
theorem dJ15_copyOf_3_21 : decode cJ15_copyOf_3 21 = .ok (.iconst 0, 1) := dk_3 (dk_at dksJ15_copyOf_3_0 21 rfl rfl)
theorem dJ15_copyOf_3_22 : decode cJ15_copyOf_3 22 = .ok (.aload_n 0, 1) := dk_42 (dk_at dksJ15_copyOf_3_0 22 rfl rfl)
theorem dJ15_copyOf_3_23 : decode cJ15_copyOf_3 23 = .ok (.arraylength, 1) := dk_190 (dk_at dksJ15_copyOf_3_0 23 rfl rfl)
theorem dJ15_copyOf_3_24 : decode cJ15_copyOf_3 24 = .ok (.iload_n 1, 1) := dk_27 (dk_at dksJ15_copyOf_3_1 0 rfl rfl)
theorem dJ15_copyOf_3_25 : decode cJ15_copyOf_3 25 = .ok (.invokestatic 304, 3) := dk_184 1 48 (dk_at dksJ15_copyOf_3_1 1 rfl rfl)
theorem dJ15_copyOf_3_28 : decode cJ15_copyOf_3 28 = .ok (.invokestatic 150, 3) := dk_184 0 150 (dk_at dksJ15_copyOf_3_1 4 rfl rfl)
theorem dJ15_copyOf_3_31 : decode cJ15_copyOf_3 31 = .ok (.aload_n 2, 1) := dk_44 (dk_at dksJ15_copyOf_3_1 7 rfl rfl)
theorem dJ15_copyOf_3_32 : decode cJ15_copyOf_3 32 = .ok (.areturn, 1) := dk_176 (dk_at dksJ15_copyOf_3_1 8 rfl rfl)
abbrev cJ15_copyOfRange : ByteArray := prog_53_method_132_code
def yJ15_copyOfRange : MethodName := ⟨RJ15, "copyOfRange", "([BII)[B"⟩
def dkwJ15_copyOfRange_1 : List UInt8 := [176]
abbrev dktJ15_copyOfRange_1 : List UInt8 := dkwJ15_copyOfRange_1 ++ []
def dkwJ15_copyOfRange_0 : List UInt8 := [27, 154, 0, 9, 28, 42, 190, 159, 0, 10, 42, 27, 28, 184, 1, 83, 176, 42, 182, 1, 54, 192, 1, 55]
abbrev dktJ15_copyOfRange_0 : List UInt8 := dkwJ15_copyOfRange_0 ++ dktJ15_copyOfRange_1
theorem dksJ15_copyOfRange_0 : cJ15_copyOfRange.data.toList.drop 0 = dktJ15_copyOfRange_0 := by decide +kernel
theorem dksJ15_copyOfRange_1 : cJ15_copyOfRange.data.toList.drop 24 = dktJ15_copyOfRange_1 := dk_seg dksJ15_copyOfRange_0 24 rfl rfl
theorem dJ15_copyOfRange_0 : decode cJ15_copyOfRange 0 = .ok (.iload_n 1, 1) := dk_27 (dk_at dksJ15_copyOfRange_0 0 rfl rfl)
theorem dJ15_copyOfRange_1 : decode cJ15_copyOfRange 1 = .ok (.ifCond .ne 9, 3) := dk_154 0 9 (dk_at dksJ15_copyOfRange_0 1 rfl rfl)
theorem dJ15_copyOfRange_4 : decode cJ15_copyOfRange 4 = .ok (.iload_n 2, 1) := dk_28 (dk_at dksJ15_copyOfRange_0 4 rfl rfl)
theorem dJ15_copyOfRange_5 : decode cJ15_copyOfRange 5 = .ok (.aload_n 0, 1) := dk_42 (dk_at dksJ15_copyOfRange_0 5 rfl rfl)
theorem dJ15_copyOfRange_6 : decode cJ15_copyOfRange 6 = .ok (.arraylength, 1) := dk_190 (dk_at dksJ15_copyOfRange_0 6 rfl rfl)
theorem dJ15_copyOfRange_7 : decode cJ15_copyOfRange 7 = .ok (.if_icmp .eq 10, 3) := dk_159 0 10 (dk_at dksJ15_copyOfRange_0 7 rfl rfl)
theorem dJ15_copyOfRange_10 : decode cJ15_copyOfRange 10 = .ok (.aload_n 0, 1) := dk_42 (dk_at dksJ15_copyOfRange_0 10 rfl rfl)
theorem dJ15_copyOfRange_11 : decode cJ15_copyOfRange 11 = .ok (.iload_n 1, 1) := dk_27 (dk_at dksJ15_copyOfRange_0 11 rfl rfl)
theorem dJ15_copyOfRange_12 : decode cJ15_copyOfRange 12 = .ok (.iload_n 2, 1) := dk_28 (dk_at dksJ15_copyOfRange_0 12 rfl rfl)
theorem dJ15_copyOfRange_13 : decode cJ15_copyOfRange 13 = .ok (.invokestatic 339, 3) := dk_184 1 83 (dk_at dksJ15_copyOfRange_0 13 rfl rfl)
theorem dJ15_copyOfRange_16 : decode cJ15_copyOfRange 16 = .ok (.areturn, 1) := dk_176 (dk_at dksJ15_copyOfRange_0 16 rfl rfl)
theorem dJ15_copyOfRange_17 : decode cJ15_copyOfRange 17 = .ok (.aload_n 0, 1) := dk_42 (dk_at dksJ15_copyOfRange_0 17 rfl rfl)
theorem dJ15_copyOfRange_18 : decode cJ15_copyOfRange 18 = .ok (.invokevirtual 310, 3) := dk_182 1 54 (dk_at dksJ15_copyOfRange_0 18 rfl rfl)
theorem dJ15_copyOfRange_21 : decode cJ15_copyOfRange 21 = .ok (.checkcast 311, 3) := dk_192 1 55 (dk_at dksJ15_copyOfRange_0 21 rfl rfl)
theorem dJ15_copyOfRange_24 : decode cJ15_copyOfRange 24 = .ok (.areturn, 1) := dk_176 (dk_at dksJ15_copyOfRange_1 0 rfl rfl)
abbrev cJ15_copyOfRangeByte : ByteArray := prog_53_method_133_code
def yJ15_copyOfRangeByte : MethodName := ⟨RJ15, "copyOfRangeByte", "([BII)[B"⟩
def dkwJ15_copyOfRangeByte_1 : List UInt8 := [184, 1, 48, 184, 0, 150, 25, 4, 176]
abbrev dktJ15_copyOfRangeByte_1 : List UInt8 := dkwJ15_copyOfRangeByte_1 ++ []
def dkwJ15_copyOfRangeByte_0 : List UInt8 := [27, 28, 184, 1, 87, 28, 27, 100, 62, 29, 188, 8, 58, 4, 42, 27, 25, 4, 3, 42, 190, 27, 100, 29]
abbrev dktJ15_copyOfRangeByte_0 : List UInt8 := dkwJ15_copyOfRangeByte_0 ++ dktJ15_copyOfRangeByte_1
theorem dksJ15_copyOfRangeByte_0 : cJ15_copyOfRangeByte.data.toList.drop 0 = dktJ15_copyOfRangeByte_0 := by decide +kernel
theorem dksJ15_copyOfRangeByte_1 : cJ15_copyOfRangeByte.data.toList.drop 24 = dktJ15_copyOfRangeByte_1 := dk_seg dksJ15_copyOfRangeByte_0 24 rfl rfl
theorem dJ15_copyOfRangeByte_0 : decode cJ15_copyOfRangeByte 0 = .ok (.iload_n 1, 1) := dk_27 (dk_at dksJ15_copyOfRangeByte_0 0 rfl rfl)
theorem dJ15_copyOfRangeByte_1 : decode cJ15_copyOfRangeByte 1 = .ok (.iload_n 2, 1) := dk_28 (dk_at dksJ15_copyOfRangeByte_0 1 rfl rfl)
theorem dJ15_copyOfRangeByte_2 : decode cJ15_copyOfRangeByte 2 = .ok (.invokestatic 343, 3) := dk_184 1 87 (dk_at dksJ15_copyOfRangeByte_0 2 rfl rfl)
theorem dJ15_copyOfRangeByte_5 : decode cJ15_copyOfRangeByte 5 = .ok (.iload_n 2, 1) := dk_28 (dk_at dksJ15_copyOfRangeByte_0 5 rfl rfl)
theorem dJ15_copyOfRangeByte_6 : decode cJ15_copyOfRangeByte 6 = .ok (.iload_n 1, 1) := dk_27 (dk_at dksJ15_copyOfRangeByte_0 6 rfl rfl)
theorem dJ15_copyOfRangeByte_7 : decode cJ15_copyOfRangeByte 7 = .ok (.isub, 1) := dk_100 (dk_at dksJ15_copyOfRangeByte_0 7 rfl rfl)
theorem dJ15_copyOfRangeByte_8 : decode cJ15_copyOfRangeByte 8 = .ok (.istore_n 3, 1) := dk_62 (dk_at dksJ15_copyOfRangeByte_0 8 rfl rfl)
theorem dJ15_copyOfRangeByte_9 : decode cJ15_copyOfRangeByte 9 = .ok (.iload_n 3, 1) := dk_29 (dk_at dksJ15_copyOfRangeByte_0 9 rfl rfl)
theorem dJ15_copyOfRangeByte_10 : decode cJ15_copyOfRangeByte 10 = .ok (.newarray .byte, 2) := dk_188_8 (dk_at dksJ15_copyOfRangeByte_0 10 rfl rfl)
theorem dJ15_copyOfRangeByte_12 : decode cJ15_copyOfRangeByte 12 = .ok (.astore 4, 2) := dk_58 4 (dk_at dksJ15_copyOfRangeByte_0 12 rfl rfl)
theorem dJ15_copyOfRangeByte_14 : decode cJ15_copyOfRangeByte 14 = .ok (.aload_n 0, 1) := dk_42 (dk_at dksJ15_copyOfRangeByte_0 14 rfl rfl)
theorem dJ15_copyOfRangeByte_15 : decode cJ15_copyOfRangeByte 15 = .ok (.iload_n 1, 1) := dk_27 (dk_at dksJ15_copyOfRangeByte_0 15 rfl rfl)
theorem dJ15_copyOfRangeByte_16 : decode cJ15_copyOfRangeByte 16 = .ok (.aload 4, 2) := dk_25 4 (dk_at dksJ15_copyOfRangeByte_0 16 rfl rfl)
theorem dJ15_copyOfRangeByte_18 : decode cJ15_copyOfRangeByte 18 = .ok (.iconst 0, 1) := dk_3 (dk_at dksJ15_copyOfRangeByte_0 18 rfl rfl)
theorem dJ15_copyOfRangeByte_19 : decode cJ15_copyOfRangeByte 19 = .ok (.aload_n 0, 1) := dk_42 (dk_at dksJ15_copyOfRangeByte_0 19 rfl rfl)
theorem dJ15_copyOfRangeByte_20 : decode cJ15_copyOfRangeByte 20 = .ok (.arraylength, 1) := dk_190 (dk_at dksJ15_copyOfRangeByte_0 20 rfl rfl)
theorem dJ15_copyOfRangeByte_21 : decode cJ15_copyOfRangeByte 21 = .ok (.iload_n 1, 1) := dk_27 (dk_at dksJ15_copyOfRangeByte_0 21 rfl rfl)
theorem dJ15_copyOfRangeByte_22 : decode cJ15_copyOfRangeByte 22 = .ok (.isub, 1) := dk_100 (dk_at dksJ15_copyOfRangeByte_0 22 rfl rfl)
theorem dJ15_copyOfRangeByte_23 : decode cJ15_copyOfRangeByte 23 = .ok (.iload_n 3, 1) := dk_29 (dk_at dksJ15_copyOfRangeByte_0 23 rfl rfl)
theorem dJ15_copyOfRangeByte_24 : decode cJ15_copyOfRangeByte 24 = .ok (.invokestatic 304, 3) := dk_184 1 48 (dk_at dksJ15_copyOfRangeByte_1 0 rfl rfl)
theorem dJ15_copyOfRangeByte_27 : decode cJ15_copyOfRangeByte 27 = .ok (.invokestatic 150, 3) := dk_184 0 150 (dk_at dksJ15_copyOfRangeByte_1 3 rfl rfl)
theorem dJ15_copyOfRangeByte_30 : decode cJ15_copyOfRangeByte 30 = .ok (.aload 4, 2) := dk_25 4 (dk_at dksJ15_copyOfRangeByte_1 6 rfl rfl)
theorem dJ15_copyOfRangeByte_32 : decode cJ15_copyOfRangeByte 32 = .ok (.areturn, 1) := dk_176 (dk_at dksJ15_copyOfRangeByte_1 8 rfl rfl)
abbrev cJ15_checkLength : ByteArray := prog_53_method_131_code
def yJ15_checkLength : MethodName := ⟨RJ15, "checkLength", "(II)V"⟩
def dkwJ15_checkLength_1 : List UInt8 := [182, 0, 50, 27, 182, 0, 54, 182, 0, 61, 183, 0, 65, 191, 177]
abbrev dktJ15_checkLength_1 : List UInt8 := dkwJ15_checkLength_1 ++ []
def dkwJ15_checkLength_0 : List UInt8 := [27, 26, 162, 0, 35, 187, 0, 43, 89, 187, 0, 45, 89, 183, 0, 47, 26, 182, 0, 54, 19, 1, 81]
abbrev dktJ15_checkLength_0 : List UInt8 := dkwJ15_checkLength_0 ++ dktJ15_checkLength_1
theorem dksJ15_checkLength_0 : cJ15_checkLength.data.toList.drop 0 = dktJ15_checkLength_0 := by decide +kernel
theorem dksJ15_checkLength_1 : cJ15_checkLength.data.toList.drop 23 = dktJ15_checkLength_1 := dk_seg dksJ15_checkLength_0 23 rfl rfl
theorem dJ15_checkLength_0 : decode cJ15_checkLength 0 = .ok (.iload_n 1, 1) := dk_27 (dk_at dksJ15_checkLength_0 0 rfl rfl)
theorem dJ15_checkLength_1 : decode cJ15_checkLength 1 = .ok (.iload_n 0, 1) := dk_26 (dk_at dksJ15_checkLength_0 1 rfl rfl)
theorem dJ15_checkLength_2 : decode cJ15_checkLength 2 = .ok (.if_icmp .ge 35, 3) := dk_162 0 35 (dk_at dksJ15_checkLength_0 2 rfl rfl)
theorem dJ15_checkLength_5 : decode cJ15_checkLength 5 = .ok (.new 43, 3) := dk_187 0 43 (dk_at dksJ15_checkLength_0 5 rfl rfl)
theorem dJ15_checkLength_8 : decode cJ15_checkLength 8 = .ok (.dup, 1) := dk_89 (dk_at dksJ15_checkLength_0 8 rfl rfl)
theorem dJ15_checkLength_9 : decode cJ15_checkLength 9 = .ok (.new 45, 3) := dk_187 0 45 (dk_at dksJ15_checkLength_0 9 rfl rfl)
theorem dJ15_checkLength_12 : decode cJ15_checkLength 12 = .ok (.dup, 1) := dk_89 (dk_at dksJ15_checkLength_0 12 rfl rfl)
theorem dJ15_checkLength_13 : decode cJ15_checkLength 13 = .ok (.invokespecial 47, 3) := dk_183 0 47 (dk_at dksJ15_checkLength_0 13 rfl rfl)
theorem dJ15_checkLength_16 : decode cJ15_checkLength 16 = .ok (.iload_n 0, 1) := dk_26 (dk_at dksJ15_checkLength_0 16 rfl rfl)
theorem dJ15_checkLength_17 : decode cJ15_checkLength 17 = .ok (.invokevirtual 54, 3) := dk_182 0 54 (dk_at dksJ15_checkLength_0 17 rfl rfl)
theorem dJ15_checkLength_20 : decode cJ15_checkLength 20 = .ok (.ldc_w 337, 3) := dk_19 1 81 (dk_at dksJ15_checkLength_0 20 rfl rfl)
theorem dJ15_checkLength_23 : decode cJ15_checkLength 23 = .ok (.invokevirtual 50, 3) := dk_182 0 50 (dk_at dksJ15_checkLength_1 0 rfl rfl)
theorem dJ15_checkLength_26 : decode cJ15_checkLength 26 = .ok (.iload_n 1, 1) := dk_27 (dk_at dksJ15_checkLength_1 3 rfl rfl)
theorem dJ15_checkLength_27 : decode cJ15_checkLength 27 = .ok (.invokevirtual 54, 3) := dk_182 0 54 (dk_at dksJ15_checkLength_1 4 rfl rfl)
theorem dJ15_checkLength_30 : decode cJ15_checkLength 30 = .ok (.invokevirtual 61, 3) := dk_182 0 61 (dk_at dksJ15_checkLength_1 7 rfl rfl)
theorem dJ15_checkLength_33 : decode cJ15_checkLength 33 = .ok (.invokespecial 65, 3) := dk_183 0 65 (dk_at dksJ15_checkLength_1 10 rfl rfl)
theorem dJ15_checkLength_36 : decode cJ15_checkLength 36 = .ok (.athrow, 1) := dk_191 (dk_at dksJ15_checkLength_1 13 rfl rfl)
theorem dJ15_checkLength_37 : decode cJ15_checkLength 37 = .ok (.return_, 1) := dk_177 (dk_at dksJ15_checkLength_1 14 rfl rfl)
abbrev cJ15_fill : ByteArray := prog_53_method_110_code
def yJ15_fill : MethodName := ⟨RJ15, "fill", "([BIIB)V"⟩
def dkwJ15_fill_1 : List UInt8 := [167, 255, 242, 177]
abbrev dktJ15_fill_1 : List UInt8 := dkwJ15_fill_1 ++ []
def dkwJ15_fill_0 : List UInt8 := [42, 190, 27, 28, 184, 0, 13, 27, 54, 4, 21, 4, 28, 162, 0, 14, 42, 21, 4, 29, 84, 132, 4, 1]
abbrev dktJ15_fill_0 : List UInt8 := dkwJ15_fill_0 ++ dktJ15_fill_1
theorem dksJ15_fill_0 : cJ15_fill.data.toList.drop 0 = dktJ15_fill_0 := by decide +kernel
theorem dksJ15_fill_1 : cJ15_fill.data.toList.drop 24 = dktJ15_fill_1 := dk_seg dksJ15_fill_0 24 rfl rfl
theorem dJ15_fill_0 : decode cJ15_fill 0 = .ok (.aload_n 0, 1) := dk_42 (dk_at dksJ15_fill_0 0 rfl rfl)
theorem dJ15_fill_1 : decode cJ15_fill 1 = .ok (.arraylength, 1) := dk_190 (dk_at dksJ15_fill_0 1 rfl rfl)
theorem dJ15_fill_2 : decode cJ15_fill 2 = .ok (.iload_n 1, 1) := dk_27 (dk_at dksJ15_fill_0 2 rfl rfl)
theorem dJ15_fill_3 : decode cJ15_fill 3 = .ok (.iload_n 2, 1) := dk_28 (dk_at dksJ15_fill_0 3 rfl rfl)
theorem dJ15_fill_4 : decode cJ15_fill 4 = .ok (.invokestatic 13, 3) := dk_184 0 13 (dk_at dksJ15_fill_0 4 rfl rfl)
theorem dJ15_fill_7 : decode cJ15_fill 7 = .ok (.iload_n 1, 1) := dk_27 (dk_at dksJ15_fill_0 7 rfl rfl)
theorem dJ15_fill_8 : decode cJ15_fill 8 = .ok (.istore 4, 2) := dk_54 4 (dk_at dksJ15_fill_0 8 rfl rfl)
theorem dJ15_fill_10 : decode cJ15_fill 10 = .ok (.iload 4, 2) := dk_21 4 (dk_at dksJ15_fill_0 10 rfl rfl)
theorem dJ15_fill_12 : decode cJ15_fill 12 = .ok (.iload_n 2, 1) := dk_28 (dk_at dksJ15_fill_0 12 rfl rfl)
theorem dJ15_fill_13 : decode cJ15_fill 13 = .ok (.if_icmp .ge 14, 3) := dk_162 0 14 (dk_at dksJ15_fill_0 13 rfl rfl)
theorem dJ15_fill_16 : decode cJ15_fill 16 = .ok (.aload_n 0, 1) := dk_42 (dk_at dksJ15_fill_0 16 rfl rfl)
theorem dJ15_fill_17 : decode cJ15_fill 17 = .ok (.iload 4, 2) := dk_21 4 (dk_at dksJ15_fill_0 17 rfl rfl)
theorem dJ15_fill_19 : decode cJ15_fill 19 = .ok (.iload_n 3, 1) := dk_29 (dk_at dksJ15_fill_0 19 rfl rfl)
theorem dJ15_fill_20 : decode cJ15_fill 20 = .ok (.bastore, 1) := dk_84 (dk_at dksJ15_fill_0 20 rfl rfl)
theorem dJ15_fill_21 : decode cJ15_fill 21 = .ok (.iinc 4 1, 3) := dk_132 4 1 (dk_at dksJ15_fill_0 21 rfl rfl)
theorem dJ15_fill_24 : decode cJ15_fill 24 = .ok (.goto (-14), 3) := dk_167 255 242 (dk_at dksJ15_fill_1 0 rfl rfl)
theorem dJ15_fill_27 : decode cJ15_fill 27 = .ok (.return_, 1) := dk_177 (dk_at dksJ15_fill_1 3 rfl rfl)
abbrev cJ15_rangeCheck : ByteArray := prog_53_method_30_code
def yJ15_rangeCheck : MethodName := ⟨RJ15, "rangeCheck", "(III)V"⟩
def dkwJ15_rangeCheck_3 : List UInt8 := [183, 0, 70, 191, 177]
abbrev dktJ15_rangeCheck_3 : List UInt8 := dkwJ15_rangeCheck_3 ++ []
def dkwJ15_rangeCheck_2 : List UInt8 := [27, 156, 0, 12, 187, 0, 68, 89, 27, 183, 0, 70, 191, 28, 26, 164, 0, 12, 187, 0, 68, 89, 28]
abbrev dktJ15_rangeCheck_2 : List UInt8 := dkwJ15_rangeCheck_2 ++ dktJ15_rangeCheck_3
def dkwJ15_rangeCheck_1 : List UInt8 := [182, 0, 54, 18, 57, 182, 0, 50, 28, 182, 0, 54, 18, 59, 182, 0, 50, 182, 0, 61, 183, 0, 65, 191]
abbrev dktJ15_rangeCheck_1 : List UInt8 := dkwJ15_rangeCheck_1 ++ dktJ15_rangeCheck_2
def dkwJ15_rangeCheck_0 : List UInt8 := [27, 28, 164, 0, 44, 187, 0, 43, 89, 187, 0, 45, 89, 183, 0, 47, 18, 48, 182, 0, 50, 27]
abbrev dktJ15_rangeCheck_0 : List UInt8 := dkwJ15_rangeCheck_0 ++ dktJ15_rangeCheck_1
theorem dksJ15_rangeCheck_0 : cJ15_rangeCheck.data.toList.drop 0 = dktJ15_rangeCheck_0 := by decide +kernel
theorem dksJ15_rangeCheck_1 : cJ15_rangeCheck.data.toList.drop 22 = dktJ15_rangeCheck_1 := dk_seg dksJ15_rangeCheck_0 22 rfl rfl
theorem dksJ15_rangeCheck_2 : cJ15_rangeCheck.data.toList.drop 46 = dktJ15_rangeCheck_2 := dk_seg dksJ15_rangeCheck_1 24 rfl rfl
theorem dksJ15_rangeCheck_3 : cJ15_rangeCheck.data.toList.drop 69 = dktJ15_rangeCheck_3 := dk_seg dksJ15_rangeCheck_2 23 rfl rfl
theorem dJ15_rangeCheck_0 : decode cJ15_rangeCheck 0 = .ok (.iload_n 1, 1) := dk_27 (dk_at dksJ15_rangeCheck_0 0 rfl rfl)
theorem dJ15_rangeCheck_1 : decode cJ15_rangeCheck 1 = .ok (.iload_n 2, 1) := dk_28 (dk_at dksJ15_rangeCheck_0 1 rfl rfl)
theorem dJ15_rangeCheck_2 : decode cJ15_rangeCheck 2 = .ok (.if_icmp .le 44, 3) := dk_164 0 44 (dk_at dksJ15_rangeCheck_0 2 rfl rfl)
theorem dJ15_rangeCheck_5 : decode cJ15_rangeCheck 5 = .ok (.new 43, 3) := dk_187 0 43 (dk_at dksJ15_rangeCheck_0 5 rfl rfl)
theorem dJ15_rangeCheck_8 : decode cJ15_rangeCheck 8 = .ok (.dup, 1) := dk_89 (dk_at dksJ15_rangeCheck_0 8 rfl rfl)
theorem dJ15_rangeCheck_9 : decode cJ15_rangeCheck 9 = .ok (.new 45, 3) := dk_187 0 45 (dk_at dksJ15_rangeCheck_0 9 rfl rfl)
theorem dJ15_rangeCheck_12 : decode cJ15_rangeCheck 12 = .ok (.dup, 1) := dk_89 (dk_at dksJ15_rangeCheck_0 12 rfl rfl)
theorem dJ15_rangeCheck_13 : decode cJ15_rangeCheck 13 = .ok (.invokespecial 47, 3) := dk_183 0 47 (dk_at dksJ15_rangeCheck_0 13 rfl rfl)
theorem dJ15_rangeCheck_16 : decode cJ15_rangeCheck 16 = .ok (.ldc 48, 2) := dk_18 48 (dk_at dksJ15_rangeCheck_0 16 rfl rfl)
theorem dJ15_rangeCheck_18 : decode cJ15_rangeCheck 18 = .ok (.invokevirtual 50, 3) := dk_182 0 50 (dk_at dksJ15_rangeCheck_0 18 rfl rfl)
theorem dJ15_rangeCheck_21 : decode cJ15_rangeCheck 21 = .ok (.iload_n 1, 1) := dk_27 (dk_at dksJ15_rangeCheck_0 21 rfl rfl)
theorem dJ15_rangeCheck_22 : decode cJ15_rangeCheck 22 = .ok (.invokevirtual 54, 3) := dk_182 0 54 (dk_at dksJ15_rangeCheck_1 0 rfl rfl)
theorem dJ15_rangeCheck_25 : decode cJ15_rangeCheck 25 = .ok (.ldc 57, 2) := dk_18 57 (dk_at dksJ15_rangeCheck_1 3 rfl rfl)
theorem dJ15_rangeCheck_27 : decode cJ15_rangeCheck 27 = .ok (.invokevirtual 50, 3) := dk_182 0 50 (dk_at dksJ15_rangeCheck_1 5 rfl rfl)
theorem dJ15_rangeCheck_30 : decode cJ15_rangeCheck 30 = .ok (.iload_n 2, 1) := dk_28 (dk_at dksJ15_rangeCheck_1 8 rfl rfl)
theorem dJ15_rangeCheck_31 : decode cJ15_rangeCheck 31 = .ok (.invokevirtual 54, 3) := dk_182 0 54 (dk_at dksJ15_rangeCheck_1 9 rfl rfl)
theorem dJ15_rangeCheck_34 : decode cJ15_rangeCheck 34 = .ok (.ldc 59, 2) := dk_18 59 (dk_at dksJ15_rangeCheck_1 12 rfl rfl)
theorem dJ15_rangeCheck_36 : decode cJ15_rangeCheck 36 = .ok (.invokevirtual 50, 3) := dk_182 0 50 (dk_at dksJ15_rangeCheck_1 14 rfl rfl)
theorem dJ15_rangeCheck_39 : decode cJ15_rangeCheck 39 = .ok (.invokevirtual 61, 3) := dk_182 0 61 (dk_at dksJ15_rangeCheck_1 17 rfl rfl)
theorem dJ15_rangeCheck_42 : decode cJ15_rangeCheck 42 = .ok (.invokespecial 65, 3) := dk_183 0 65 (dk_at dksJ15_rangeCheck_1 20 rfl rfl)
theorem dJ15_rangeCheck_45 : decode cJ15_rangeCheck 45 = .ok (.athrow, 1) := dk_191 (dk_at dksJ15_rangeCheck_1 23 rfl rfl)
theorem dJ15_rangeCheck_46 : decode cJ15_rangeCheck 46 = .ok (.iload_n 1, 1) := dk_27 (dk_at dksJ15_rangeCheck_2 0 rfl rfl)
theorem dJ15_rangeCheck_47 : decode cJ15_rangeCheck 47 = .ok (.ifCond .ge 12, 3) := dk_156 0 12 (dk_at dksJ15_rangeCheck_2 1 rfl rfl)
theorem dJ15_rangeCheck_50 : decode cJ15_rangeCheck 50 = .ok (.new 68, 3) := dk_187 0 68 (dk_at dksJ15_rangeCheck_2 4 rfl rfl)
theorem dJ15_rangeCheck_53 : decode cJ15_rangeCheck 53 = .ok (.dup, 1) := dk_89 (dk_at dksJ15_rangeCheck_2 7 rfl rfl)
theorem dJ15_rangeCheck_54 : decode cJ15_rangeCheck 54 = .ok (.iload_n 1, 1) := dk_27 (dk_at dksJ15_rangeCheck_2 8 rfl rfl)
theorem dJ15_rangeCheck_55 : decode cJ15_rangeCheck 55 = .ok (.invokespecial 70, 3) := dk_183 0 70 (dk_at dksJ15_rangeCheck_2 9 rfl rfl)
theorem dJ15_rangeCheck_58 : decode cJ15_rangeCheck 58 = .ok (.athrow, 1) := dk_191 (dk_at dksJ15_rangeCheck_2 12 rfl rfl)
theorem dJ15_rangeCheck_59 : decode cJ15_rangeCheck 59 = .ok (.iload_n 2, 1) := dk_28 (dk_at dksJ15_rangeCheck_2 13 rfl rfl)
theorem dJ15_rangeCheck_60 : decode cJ15_rangeCheck 60 = .ok (.iload_n 0, 1) := dk_26 (dk_at dksJ15_rangeCheck_2 14 rfl rfl)
theorem dJ15_rangeCheck_61 : decode cJ15_rangeCheck 61 = .ok (.if_icmp .le 12, 3) := dk_164 0 12 (dk_at dksJ15_rangeCheck_2 15 rfl rfl)
theorem dJ15_rangeCheck_64 : decode cJ15_rangeCheck 64 = .ok (.new 68, 3) := dk_187 0 68 (dk_at dksJ15_rangeCheck_2 18 rfl rfl)
theorem dJ15_rangeCheck_67 : decode cJ15_rangeCheck 67 = .ok (.dup, 1) := dk_89 (dk_at dksJ15_rangeCheck_2 21 rfl rfl)
theorem dJ15_rangeCheck_68 : decode cJ15_rangeCheck 68 = .ok (.iload_n 2, 1) := dk_28 (dk_at dksJ15_rangeCheck_2 22 rfl rfl)
theorem dJ15_rangeCheck_69 : decode cJ15_rangeCheck 69 = .ok (.invokespecial 70, 3) := dk_183 0 70 (dk_at dksJ15_rangeCheck_3 0 rfl rfl)
theorem dJ15_rangeCheck_72 : decode cJ15_rangeCheck 72 = .ok (.athrow, 1) := dk_191 (dk_at dksJ15_rangeCheck_3 3 rfl rfl)
theorem dJ15_rangeCheck_73 : decode cJ15_rangeCheck 73 = .ok (.return_, 1) := dk_177 (dk_at dksJ15_rangeCheck_3 4 rfl rfl)
theorem q105 : (Jvm.Cond.initialized "java/util/Arrays") ∈ lw_all := lw_g (lw_at lw_m1 22 rfl) rfl
theorem q491 : (Jvm.Cond.static ({ cls := "java/util/Arrays", name := "copyOf", desc := "([Ljava/lang/Object;I)[Ljava/lang/Object;" } : Jvm.MethodName)) ∈ lw_all := lw_g (lw_at lw_m2 168 rfl) rfl
theorem q492 : (Jvm.Cond.code ({ cls := "java/util/Arrays", name := "copyOf", desc := "([Ljava/lang/Object;I)[Ljava/lang/Object;" } : Jvm.MethodName) prog_53_method_119_code (2 : Nat) (Option.some (Jvm.ClassFile.FieldType.array (Jvm.ClassFile.FieldType.object "java/lang/Object")))) ∈ lw_all := lw_g (lw_at lw_m2 169 rfl) rfl
theorem q493 : (Jvm.Cond.methodLink "java/util/Arrays" (86 : Nat) ({ cls := "java/lang/Object", name := "getClass", desc := "()Ljava/lang/Class;" } : Jvm.MethodName)) ∈ lw_all := lw_g (lw_at lw_m2 170 rfl) rfl
theorem q531 : (Jvm.Cond.methodLink "java/util/Arrays" (300 : Nat) ({ cls := "java/util/Arrays", name := "copyOf", desc := "([Ljava/lang/Object;ILjava/lang/Class;)[Ljava/lang/Object;" } : Jvm.MethodName)) ∈ lw_all := lw_g (lw_at lw_m2 208 rfl) rfl
theorem q532 : (Jvm.Cond.static ({ cls := "java/util/Arrays", name := "copyOf", desc := "([Ljava/lang/Object;ILjava/lang/Class;)[Ljava/lang/Object;" } : Jvm.MethodName)) ∈ lw_all := lw_g (lw_at lw_m2 209 rfl) rfl
theorem q533 : (Jvm.Cond.code ({ cls := "java/util/Arrays", name := "copyOf", desc := "([Ljava/lang/Object;ILjava/lang/Class;)[Ljava/lang/Object;" } : Jvm.MethodName) prog_53_method_120_code (4 : Nat) (Option.some (Jvm.ClassFile.FieldType.array (Jvm.ClassFile.FieldType.object "java/lang/Object")))) ∈ lw_all := lw_g (lw_at lw_m2 210 rfl) rfl
theorem q534 : (Jvm.Cond.classLink "java/util/Arrays" (110 : Nat) "[Ljava/lang/Object;") ∈ lw_all := lw_g (lw_at lw_m2 211 rfl) rfl
theorem q535 : (Jvm.Cond.classLink "java/util/Arrays" (2 : Nat) "java/lang/Object") ∈ lw_all := lw_g (lw_at lw_m2 212 rfl) rfl
theorem q536 : (Jvm.Cond.methodLink "java/util/Arrays" (304 : Nat) ({ cls := "java/lang/Math", name := "min", desc := "(II)I" } : Jvm.MethodName)) ∈ lw_all := lw_g (lw_at lw_m2 213 rfl) rfl
theorem q539 : (Jvm.Cond.methodLink "java/util/Arrays" (150 : Nat) ({ cls := "java/lang/System", name := "arraycopy", desc := "(Ljava/lang/Object;ILjava/lang/Object;II)V" } : Jvm.MethodName)) ∈ lw_all := lw_g (lw_at lw_m2 216 rfl) rfl
theorem q878 : (Jvm.Cond.static ({ cls := "java/util/Arrays", name := "copyOf", desc := "([BI)[B" } : Jvm.MethodName)) ∈ lw_all := lw_g (lw_at lw_m4 75 rfl) rfl
theorem q879 : (Jvm.Cond.code ({ cls := "java/util/Arrays", name := "copyOf", desc := "([BI)[B" } : Jvm.MethodName) prog_53_method_121_code (3 : Nat) (Option.some (Jvm.ClassFile.FieldType.array Jvm.ClassFile.FieldType.byte))) ∈ lw_all := lw_g (lw_at lw_m4 76 rfl) rfl
theorem q880 : (Jvm.Cond.methodLink "java/util/Arrays" (310 : Nat) ({ cls := "[B", name := "clone", desc := "()Ljava/lang/Object;" } : Jvm.MethodName)) ∈ lw_all := lw_g (lw_at lw_m4 77 rfl) rfl
theorem q886 : (Jvm.Cond.classLink "java/util/Arrays" (311 : Nat) "[B") ∈ lw_all := lw_g (lw_at lw_m4 83 rfl) rfl
theorem q1118 : (Jvm.Cond.static ({ cls := "java/util/Arrays", name := "copyOfRange", desc := "([BII)[B" } : Jvm.MethodName)) ∈ lw_all := lw_g (lw_at lw_m5 75 rfl) rfl
theorem q1119 : (Jvm.Cond.code ({ cls := "java/util/Arrays", name := "copyOfRange", desc := "([BII)[B" } : Jvm.MethodName) prog_53_method_132_code (3 : Nat) (Option.some (Jvm.ClassFile.FieldType.array Jvm.ClassFile.FieldType.byte))) ∈ lw_all := lw_g (lw_at lw_m5 76 rfl) rfl
theorem q1120 : (Jvm.Cond.methodLink "java/util/Arrays" (339 : Nat) ({ cls := "java/util/Arrays", name := "copyOfRangeByte", desc := "([BII)[B" } : Jvm.MethodName)) ∈ lw_all := lw_g (lw_at lw_m5 77 rfl) rfl
theorem q1121 : (Jvm.Cond.static ({ cls := "java/util/Arrays", name := "copyOfRangeByte", desc := "([BII)[B" } : Jvm.MethodName)) ∈ lw_all := lw_g (lw_at lw_m5 78 rfl) rfl
theorem q1122 : (Jvm.Cond.code ({ cls := "java/util/Arrays", name := "copyOfRangeByte", desc := "([BII)[B" } : Jvm.MethodName) prog_53_method_133_code (5 : Nat) (Option.some (Jvm.ClassFile.FieldType.array Jvm.ClassFile.FieldType.byte))) ∈ lw_all := lw_g (lw_at lw_m5 79 rfl) rfl
theorem q1123 : (Jvm.Cond.methodLink "java/util/Arrays" (343 : Nat) ({ cls := "java/util/Arrays", name := "checkLength", desc := "(II)V" } : Jvm.MethodName)) ∈ lw_all := lw_g (lw_at lw_m5 80 rfl) rfl
theorem q1124 : (Jvm.Cond.static ({ cls := "java/util/Arrays", name := "checkLength", desc := "(II)V" } : Jvm.MethodName)) ∈ lw_all := lw_g (lw_at lw_m5 81 rfl) rfl
theorem q1125 : (Jvm.Cond.code ({ cls := "java/util/Arrays", name := "checkLength", desc := "(II)V" } : Jvm.MethodName) prog_53_method_131_code (2 : Nat) (Option.none : Option Jvm.ClassFile.FieldType)) ∈ lw_all := lw_g (lw_at lw_m5 82 rfl) rfl
theorem q1126 : (Jvm.Cond.classLink "java/util/Arrays" (43 : Nat) "java/lang/IllegalArgumentException") ∈ lw_all := lw_g (lw_at lw_m5 83 rfl) rfl
theorem q1135 : (Jvm.Cond.classLink "java/util/Arrays" (45 : Nat) "java/lang/StringBuilder") ∈ lw_all := lw_g (lw_at lw_m5 92 rfl) rfl
theorem q1136 : (Jvm.Cond.methodLink "java/util/Arrays" (47 : Nat) ({ cls := "java/lang/StringBuilder", name := "<init>", desc := "()V" } : Jvm.MethodName)) ∈ lw_all := lw_g (lw_at lw_m5 93 rfl) rfl
theorem q1137 : (Jvm.Cond.methodLink "java/util/Arrays" (54 : Nat) ({ cls := "java/lang/StringBuilder", name := "append", desc := "(I)Ljava/lang/StringBuilder;" } : Jvm.MethodName)) ∈ lw_all := lw_g (lw_at lw_m5 94 rfl) rfl
theorem q1138 : (Jvm.Cond.stringRef "java/util/Arrays" (337 : Nat) " > ") ∈ lw_tbl := lw_at lw_m5 95 rfl
theorem q1139 : (Jvm.Cond.methodLink "java/util/Arrays" (50 : Nat) ({ cls := "java/lang/StringBuilder", name := "append", desc := "(Ljava/lang/String;)Ljava/lang/StringBuilder;" } : Jvm.MethodName)) ∈ lw_all := lw_g (lw_at lw_m5 96 rfl) rfl
theorem q1140 : (Jvm.Cond.methodLink "java/util/Arrays" (61 : Nat) ({ cls := "java/lang/StringBuilder", name := "toString", desc := "()Ljava/lang/String;" } : Jvm.MethodName)) ∈ lw_all := lw_g (lw_at lw_m5 97 rfl) rfl
theorem q1141 : (Jvm.Cond.methodLink "java/util/Arrays" (65 : Nat) ({ cls := "java/lang/IllegalArgumentException", name := "<init>", desc := "(Ljava/lang/String;)V" } : Jvm.MethodName)) ∈ lw_all := lw_g (lw_at lw_m5 98 rfl) rfl
theorem q1185 : (Jvm.Cond.static ({ cls := "java/util/Arrays", name := "fill", desc := "([BIIB)V" } : Jvm.MethodName)) ∈ lw_all := lw_g (lw_at lw_m5 142 rfl) rfl
theorem q1186 : (Jvm.Cond.code ({ cls := "java/util/Arrays", name := "fill", desc := "([BIIB)V" } : Jvm.MethodName) prog_53_method_110_code (5 : Nat) (Option.none : Option Jvm.ClassFile.FieldType)) ∈ lw_all := lw_g (lw_at lw_m5 143 rfl) rfl
theorem q1187 : (Jvm.Cond.methodLink "java/util/Arrays" (13 : Nat) ({ cls := "java/util/Arrays", name := "rangeCheck", desc := "(III)V" } : Jvm.MethodName)) ∈ lw_all := lw_g (lw_at lw_m5 144 rfl) rfl
theorem q1188 : (Jvm.Cond.static ({ cls := "java/util/Arrays", name := "rangeCheck", desc := "(III)V" } : Jvm.MethodName)) ∈ lw_all := lw_g (lw_at lw_m5 145 rfl) rfl
theorem q1189 : (Jvm.Cond.code ({ cls := "java/util/Arrays", name := "rangeCheck", desc := "(III)V" } : Jvm.MethodName) prog_53_method_30_code (3 : Nat) (Option.none : Option Jvm.ClassFile.FieldType)) ∈ lw_all := lw_g (lw_at lw_m5 146 rfl) rfl
theorem q1190 : (Jvm.Cond.stringRef "java/util/Arrays" (48 : Nat) "fromIndex(") ∈ lw_tbl := lw_at lw_m5 147 rfl
theorem q1191 : (Jvm.Cond.stringRef "java/util/Arrays" (57 : Nat) ") > toIndex(") ∈ lw_tbl := lw_at lw_m5 148 rfl
theorem q1192 : (Jvm.Cond.stringRef "java/util/Arrays" (59 : Nat) ")") ∈ lw_tbl := lw_at lw_m5 149 rfl
theorem q1193 : (Jvm.Cond.classLink "java/util/Arrays" (68 : Nat) "java/lang/ArrayIndexOutOfBoundsException") ∈ lw_all := lw_g (lw_at lw_m5 150 rfl) rfl
theorem q1204 : (Jvm.Cond.methodLink "java/util/Arrays" (70 : Nat) ({ cls := "java/lang/ArrayIndexOutOfBoundsException", name := "<init>", desc := "(I)V" } : Jvm.MethodName)) ∈ lw_all := lw_g (lw_at lw_m5 161 rfl) rfl
/-! java/lang/Math -/
set_option maxRecDepth 100000
def RJ16 : String := "java/lang/Math"
abbrev cJ16_min : ByteArray := prog_30_method_69_code
def yJ16_min : MethodName := ⟨RJ16, "min", "(II)I"⟩
def dkwJ16_min_0 : List UInt8 := [26, 27, 163, 0, 7, 26, 167, 0, 4, 27, 172]
abbrev dktJ16_min_0 : List UInt8 := dkwJ16_min_0 ++ []
theorem dksJ16_min_0 : cJ16_min.data.toList.drop 0 = dktJ16_min_0 := by decide +kernel
theorem dJ16_min_0 : decode cJ16_min 0 = .ok (.iload_n 0, 1) := dk_26 (dk_at dksJ16_min_0 0 rfl rfl)
theorem dJ16_min_1 : decode cJ16_min 1 = .ok (.iload_n 1, 1) := dk_27 (dk_at dksJ16_min_0 1 rfl rfl)
theorem dJ16_min_2 : decode cJ16_min 2 = .ok (.if_icmp .gt 7, 3) := dk_163 0 7 (dk_at dksJ16_min_0 2 rfl rfl)
theorem dJ16_min_5 : decode cJ16_min 5 = .ok (.iload_n 0, 1) := dk_26 (dk_at dksJ16_min_0 5 rfl rfl)
theorem dJ16_min_6 : decode cJ16_min 6 = .ok (.goto 4, 3) := dk_167 0 4 (dk_at dksJ16_min_0 6 rfl rfl)
theorem dJ16_min_9 : decode cJ16_min 9 = .ok (.iload_n 1, 1) := dk_27 (dk_at dksJ16_min_0 9 rfl rfl)
theorem dJ16_min_10 : decode cJ16_min 10 = .ok (.ireturn, 1) := dk_172 (dk_at dksJ16_min_0 10 rfl rfl)
abbrev cJ16_max : ByteArray := prog_30_method_65_code
def yJ16_max : MethodName := ⟨RJ16, "max", "(II)I"⟩
def dkwJ16_max_0 : List UInt8 := [26, 27, 161, 0, 7, 26, 167, 0, 4, 27, 172]
abbrev dktJ16_max_0 : List UInt8 := dkwJ16_max_0 ++ []
theorem dksJ16_max_0 : cJ16_max.data.toList.drop 0 = dktJ16_max_0 := by decide +kernel
theorem dJ16_max_0 : decode cJ16_max 0 = .ok (.iload_n 0, 1) := dk_26 (dk_at dksJ16_max_0 0 rfl rfl)
theorem dJ16_max_1 : decode cJ16_max 1 = .ok (.iload_n 1, 1) := dk_27 (dk_at dksJ16_max_0 1 rfl rfl)
theorem dJ16_max_2 : decode cJ16_max 2 = .ok (.if_icmp .lt 7, 3) := dk_161 0 7 (dk_at dksJ16_max_0 2 rfl rfl)
theorem dJ16_max_5 : decode cJ16_max 5 = .ok (.iload_n 0, 1) := dk_26 (dk_at dksJ16_max_0 5 rfl rfl)
theorem dJ16_max_6 : decode cJ16_max 6 = .ok (.goto 4, 3) := dk_167 0 4 (dk_at dksJ16_max_0 6 rfl rfl)
theorem dJ16_max_9 : decode cJ16_max 9 = .ok (.iload_n 1, 1) := dk_27 (dk_at dksJ16_max_0 9 rfl rfl)
theorem dJ16_max_10 : decode cJ16_max 10 = .ok (.ireturn, 1) := dk_172 (dk_at dksJ16_max_0 10 rfl rfl)
theorem q106 : (Jvm.Cond.initialized "java/lang/Math") ∈ lw_all := lw_g (lw_at lw_m1 23 rfl) rfl
theorem q537 : (Jvm.Cond.static ({ cls := "java/lang/Math", name := "min", desc := "(II)I" } : Jvm.MethodName)) ∈ lw_all := lw_g (lw_at lw_m2 214 rfl) rfl
theorem q538 : (Jvm.Cond.code ({ cls := "java/lang/Math", name := "min", desc := "(II)I" } : Jvm.MethodName) prog_30_method_69_code (2 : Nat) (Option.some Jvm.ClassFile.FieldType.int)) ∈ lw_all := lw_g (lw_at lw_m2 215 rfl) rfl
theorem q787 : (Jvm.Cond.static ({ cls := "java/lang/Math", name := "max", desc := "(II)I" } : Jvm.MethodName)) ∈ lw_all := lw_g (lw_at lw_m3 224 rfl) rfl
theorem q788 : (Jvm.Cond.code ({ cls := "java/lang/Math", name := "max", desc := "(II)I" } : Jvm.MethodName) prog_30_method_65_code (2 : Nat) (Option.some Jvm.ClassFile.FieldType.int)) ∈ lw_all := lw_g (lw_at lw_m3 225 rfl) rfl
/-! java/lang/IllegalArgumentException -/
set_option maxRecDepth 100000
def RJ17 : String := "java/lang/IllegalArgumentException"
def TJ17 : u_T := fun k => match k with
  | 0 => ("java/lang/Throwable", "cause", "Ljava/lang/Throwable;", false)
  | 1 => ("java/lang/Throwable", "stackTrace", "[Ljava/lang/StackTraceElement;", false)
  | 2 => ("java/lang/Throwable", "suppressedExceptions", "Ljava/util/List;", false)
  | 3 => ("java/lang/Throwable", "detailMessage", "Ljava/lang/String;", false)
  | 4 => ("java/lang/Throwable", "backtrace", "Ljava/lang/Object;", false)
  | _ => ("java/lang/Throwable", "depth", "I", false)
def tyJ17 : Nat → FieldType := fun k => match k with
  | 0 => .object "java/lang/Throwable"
  | 1 => .array (.object "java/lang/StackTraceElement")
  | 2 => .object "java/util/List"
  | 3 => .object "java/lang/String"
  | 4 => .object "java/lang/Object"
  | _ => .int
abbrev wsJ170 : List Cond := u_ws RJ17 TJ17 6
theorem nmJ17 : ∀ a, a < 6 → ∀ b, b < 6 → a ≠ b → (TJ17 a).2.1 ≠ (TJ17 b).2.1 := by decide +kernel
theorem tyJ17_ok : ∀ k, k < 6 → parseFieldDescriptor (TJ17 k).2.2.1 = some (tyJ17 k) := by decide +kernel
abbrev cJ17_init : ByteArray := prog_24_method_2_code
def yJ17_init : MethodName := ⟨RJ17, "<init>", "(Ljava/lang/String;)V"⟩
def dkwJ17_init_0 : List UInt8 := [42, 43, 183, 0, 7, 177]
abbrev dktJ17_init_0 : List UInt8 := dkwJ17_init_0 ++ []
theorem dksJ17_init_0 : cJ17_init.data.toList.drop 0 = dktJ17_init_0 := by decide +kernel
theorem dJ17_init_0 : decode cJ17_init 0 = .ok (.aload_n 0, 1) := dk_42 (dk_at dksJ17_init_0 0 rfl rfl)
theorem dJ17_init_1 : decode cJ17_init 1 = .ok (.aload_n 1, 1) := dk_43 (dk_at dksJ17_init_0 1 rfl rfl)
theorem dJ17_init_2 : decode cJ17_init 2 = .ok (.invokespecial 7, 3) := dk_183 0 7 (dk_at dksJ17_init_0 2 rfl rfl)
theorem dJ17_init_5 : decode cJ17_init 5 = .ok (.return_, 1) := dk_177 (dk_at dksJ17_init_0 5 rfl rfl)
abbrev cJ17_init_2 : ByteArray := prog_24_method_1_code
def yJ17_init_2 : MethodName := ⟨RJ17, "<init>", "()V"⟩
theorem dJ17_init_2_0 : decode cJ17_init_2 0 = .ok (.aload_n 0, 1) := by decide +kernel
theorem dJ17_init_2_1 : decode cJ17_init_2 1 = .ok (.invokespecial 1, 3) := by decide +kernel
theorem dJ17_init_2_4 : decode cJ17_init_2 4 = .ok (.return_, 1) := by decide +kernel
theorem q110 : (Jvm.Cond.initialized "java/lang/IllegalArgumentException") ∈ lw_all := lw_g (lw_at lw_m1 27 rfl) rfl
theorem q317 : (Jvm.Cond.selects "java/lang/IllegalArgumentException" ({ cls := "java/lang/Throwable", name := "fillInStackTrace", desc := "()Ljava/lang/Throwable;" } : Jvm.MethodName) ({ cls := "java/lang/Throwable", name := "fillInStackTrace", desc := "()Ljava/lang/Throwable;" } : Jvm.MethodName)) ∈ lw_all := lw_g (lw_at lw_m1 234 rfl) rfl
theorem q510 : (Jvm.Cond.selects "java/lang/IllegalArgumentException" ({ cls := "java/lang/Object", name := "getClass", desc := "()Ljava/lang/Class;" } : Jvm.MethodName) ({ cls := "java/lang/Object", name := "getClass", desc := "()Ljava/lang/Class;" } : Jvm.MethodName)) ∈ lw_all := lw_g (lw_at lw_m2 187 rfl) rfl
theorem q1127 : (Jvm.Cond.instantiable "java/lang/IllegalArgumentException" (6 : Nat)) ∈ lw_all := lw_g (lw_at lw_m5 84 rfl) rfl
theorem q1128 : (Jvm.Cond.castable "java/lang/IllegalArgumentException" "java/lang/IllegalArgumentException") ∈ lw_tbl := lw_at lw_m5 85 rfl
theorem q1129 : (Jvm.Cond.selects "java/lang/IllegalArgumentException" ({ cls := "java/lang/Throwable", name := "fillInStackTrace", desc := "(I)Ljava/lang/Throwable;" } : Jvm.MethodName) ({ cls := "java/lang/Throwable", name := "fillInStackTrace", desc := "(I)Ljava/lang/Throwable;" } : Jvm.MethodName)) ∈ lw_all := lw_g (lw_at lw_m5 86 rfl) rfl
theorem q1130 : (Jvm.Cond.lays "java/lang/IllegalArgumentException" "java/lang/Throwable" "cause" "Ljava/lang/Throwable;") ∈ lw_all := lw_g (lw_at lw_m5 87 rfl) rfl
theorem q1131 : (Jvm.Cond.lays "java/lang/IllegalArgumentException" "java/lang/Throwable" "stackTrace" "[Ljava/lang/StackTraceElement;") ∈ lw_all := lw_g (lw_at lw_m5 88 rfl) rfl
theorem q1132 : (Jvm.Cond.lays "java/lang/IllegalArgumentException" "java/lang/Throwable" "suppressedExceptions" "Ljava/util/List;") ∈ lw_all := lw_g (lw_at lw_m5 89 rfl) rfl
theorem q1133 : (Jvm.Cond.lays "java/lang/IllegalArgumentException" "java/lang/Throwable" "detailMessage" "Ljava/lang/String;") ∈ lw_all := lw_g (lw_at lw_m5 90 rfl) rfl
theorem q1134 : (Jvm.Cond.lays "java/lang/IllegalArgumentException" "java/lang/Throwable" "backtrace" "Ljava/lang/Object;") ∈ lw_all := lw_g (lw_at lw_m5 91 rfl) rfl
theorem q1142 : (Jvm.Cond.instanceMethod ({ cls := "java/lang/IllegalArgumentException", name := "<init>", desc := "(Ljava/lang/String;)V" } : Jvm.MethodName)) ∈ lw_all := lw_g (lw_at lw_m5 99 rfl) rfl
theorem q1143 : (Jvm.Cond.code ({ cls := "java/lang/IllegalArgumentException", name := "<init>", desc := "(Ljava/lang/String;)V" } : Jvm.MethodName) prog_24_method_2_code (2 : Nat) (Option.none : Option Jvm.ClassFile.FieldType)) ∈ lw_all := lw_g (lw_at lw_m5 100 rfl) rfl
theorem q1144 : (Jvm.Cond.methodLink "java/lang/IllegalArgumentException" (7 : Nat) ({ cls := "java/lang/RuntimeException", name := "<init>", desc := "(Ljava/lang/String;)V" } : Jvm.MethodName)) ∈ lw_all := lw_g (lw_at lw_m5 101 rfl) rfl
theorem q1145 : (Jvm.Cond.lays "java/lang/IllegalArgumentException" "java/lang/Throwable" "depth" "I") ∈ lw_all := lw_g (lw_at lw_m5 102 rfl) rfl
theorem q1146 : (Jvm.Cond.superclass "java/lang/IllegalArgumentException" "java/lang/RuntimeException") ∈ lw_all := lw_g (lw_at lw_m5 103 rfl) rfl
theorem q1306 : (Jvm.Cond.instanceMethod ({ cls := "java/lang/IllegalArgumentException", name := "<init>", desc := "()V" } : Jvm.MethodName)) ∈ lw_all := lw_g (lw_at lw_m6 23 rfl) rfl
theorem q1307 : (Jvm.Cond.code ({ cls := "java/lang/IllegalArgumentException", name := "<init>", desc := "()V" } : Jvm.MethodName) prog_24_method_1_code (1 : Nat) (Option.none : Option Jvm.ClassFile.FieldType)) ∈ lw_all := lw_g (lw_at lw_m6 24 rfl) rfl
theorem q1308 : (Jvm.Cond.methodLink "java/lang/IllegalArgumentException" (1 : Nat) ({ cls := "java/lang/RuntimeException", name := "<init>", desc := "()V" } : Jvm.MethodName)) ∈ lw_all := lw_g (lw_at lw_m6 25 rfl) rfl
theorem q2034 : (Jvm.Cond.selects "java/lang/IllegalArgumentException" ({ cls := "java/lang/Throwable", name := "toString", desc := "()Ljava/lang/String;" } : Jvm.MethodName) ({ cls := "java/lang/Throwable", name := "toString", desc := "()Ljava/lang/String;" } : Jvm.MethodName)) ∈ lw_all := lw_g (lw_at lw_m9 31 rfl) rfl
theorem q2053 : (Jvm.Cond.selects "java/lang/IllegalArgumentException" ({ cls := "java/lang/Throwable", name := "getLocalizedMessage", desc := "()Ljava/lang/String;" } : Jvm.MethodName) ({ cls := "java/lang/Throwable", name := "getLocalizedMessage", desc := "()Ljava/lang/String;" } : Jvm.MethodName)) ∈ lw_all := lw_g (lw_at lw_m9 50 rfl) rfl
theorem q2071 : (Jvm.Cond.selects "java/lang/IllegalArgumentException" ({ cls := "java/lang/Throwable", name := "getMessage", desc := "()Ljava/lang/String;" } : Jvm.MethodName) ({ cls := "java/lang/Throwable", name := "getMessage", desc := "()Ljava/lang/String;" } : Jvm.MethodName)) ∈ lw_all := lw_g (lw_at lw_m9 68 rfl) rfl
theorem q2775 : (Jvm.Cond.castable "java/lang/IllegalArgumentException" "java/lang/RuntimeException") ∈ lw_tbl := lw_at lw_m12 52 rfl
theorem q2798 : (Jvm.Cond.castable "java/lang/IllegalArgumentException" "java/lang/Object") ∈ lw_tbl := lw_at lw_m12 75 rfl
theorem in_J17 : ∀ w ∈ wsJ170, w ∈ lw_all := lw_in wsJ170 [1130, 1131, 1132, 1133, 1134, 1145] (by decide +kernel) (by decide +kernel)
/-! java/lang/IndexOutOfBoundsException -/
set_option maxRecDepth 100000
def RJ18 : String := "java/lang/IndexOutOfBoundsException"
def TJ18 : u_T := fun k => match k with
  | 0 => ("java/lang/Throwable", "cause", "Ljava/lang/Throwable;", false)
  | 1 => ("java/lang/Throwable", "stackTrace", "[Ljava/lang/StackTraceElement;", false)
  | 2 => ("java/lang/Throwable", "suppressedExceptions", "Ljava/util/List;", false)
  | 3 => ("java/lang/Throwable", "detailMessage", "Ljava/lang/String;", false)
  | 4 => ("java/lang/Throwable", "backtrace", "Ljava/lang/Object;", false)
  | _ => ("java/lang/Throwable", "depth", "I", false)
def tyJ18 : Nat → FieldType := fun k => match k with
  | 0 => .object "java/lang/Throwable"
  | 1 => .array (.object "java/lang/StackTraceElement")
  | 2 => .object "java/util/List"
  | 3 => .object "java/lang/String"
  | 4 => .object "java/lang/Object"
  | _ => .int
abbrev wsJ180 : List Cond := u_ws RJ18 TJ18 6
theorem nmJ18 : ∀ a, a < 6 → ∀ b, b < 6 → a ≠ b → (TJ18 a).2.1 ≠ (TJ18 b).2.1 := by decide +kernel
theorem tyJ18_ok : ∀ k, k < 6 → parseFieldDescriptor (TJ18 k).2.2.1 = some (tyJ18 k) := by decide +kernel
abbrev cJ18_init : ByteArray := prog_26_method_2_code
def yJ18_init : MethodName := ⟨RJ18, "<init>", "(Ljava/lang/String;)V"⟩
def dkwJ18_init_0 : List UInt8 := [42, 43, 183, 0, 7, 177]
abbrev dktJ18_init_0 : List UInt8 := dkwJ18_init_0 ++ []
theorem dksJ18_init_0 : cJ18_init.data.toList.drop 0 = dktJ18_init_0 := by decide +kernel
theorem dJ18_init_0 : decode cJ18_init 0 = .ok (.aload_n 0, 1) := dk_42 (dk_at dksJ18_init_0 0 rfl rfl)
theorem dJ18_init_1 : decode cJ18_init 1 = .ok (.aload_n 1, 1) := dk_43 (dk_at dksJ18_init_0 1 rfl rfl)
theorem dJ18_init_2 : decode cJ18_init 2 = .ok (.invokespecial 7, 3) := dk_183 0 7 (dk_at dksJ18_init_0 2 rfl rfl)
theorem dJ18_init_5 : decode cJ18_init 5 = .ok (.return_, 1) := dk_177 (dk_at dksJ18_init_0 5 rfl rfl)
abbrev cJ18_init_2 : ByteArray := prog_26_method_1_code
def yJ18_init_2 : MethodName := ⟨RJ18, "<init>", "()V"⟩
theorem dJ18_init_2_0 : decode cJ18_init_2 0 = .ok (.aload_n 0, 1) := by decide +kernel
theorem dJ18_init_2_1 : decode cJ18_init_2 1 = .ok (.invokespecial 1, 3) := by decide +kernel
theorem dJ18_init_2_4 : decode cJ18_init_2 4 = .ok (.return_, 1) := by decide +kernel
theorem q111 : (Jvm.Cond.initialized "java/lang/IndexOutOfBoundsException") ∈ lw_all := lw_g (lw_at lw_m1 28 rfl) rfl
theorem q319 : (Jvm.Cond.selects "java/lang/IndexOutOfBoundsException" ({ cls := "java/lang/Throwable", name := "fillInStackTrace", desc := "()Ljava/lang/Throwable;" } : Jvm.MethodName) ({ cls := "java/lang/Throwable", name := "fillInStackTrace", desc := "()Ljava/lang/Throwable;" } : Jvm.MethodName)) ∈ lw_all := lw_g (lw_at lw_m1 236 rfl) rfl
theorem q512 : (Jvm.Cond.selects "java/lang/IndexOutOfBoundsException" ({ cls := "java/lang/Object", name := "getClass", desc := "()Ljava/lang/Class;" } : Jvm.MethodName) ({ cls := "java/lang/Object", name := "getClass", desc := "()Ljava/lang/Class;" } : Jvm.MethodName)) ∈ lw_all := lw_g (lw_at lw_m2 189 rfl) rfl
theorem q992 : (Jvm.Cond.instantiable "java/lang/IndexOutOfBoundsException" (6 : Nat)) ∈ lw_all := lw_g (lw_at lw_m4 189 rfl) rfl
theorem q993 : (Jvm.Cond.castable "java/lang/IndexOutOfBoundsException" "java/lang/IndexOutOfBoundsException") ∈ lw_tbl := lw_at lw_m4 190 rfl
theorem q994 : (Jvm.Cond.selects "java/lang/IndexOutOfBoundsException" ({ cls := "java/lang/Throwable", name := "fillInStackTrace", desc := "(I)Ljava/lang/Throwable;" } : Jvm.MethodName) ({ cls := "java/lang/Throwable", name := "fillInStackTrace", desc := "(I)Ljava/lang/Throwable;" } : Jvm.MethodName)) ∈ lw_all := lw_g (lw_at lw_m4 191 rfl) rfl
theorem q995 : (Jvm.Cond.lays "java/lang/IndexOutOfBoundsException" "java/lang/Throwable" "cause" "Ljava/lang/Throwable;") ∈ lw_all := lw_g (lw_at lw_m4 192 rfl) rfl
theorem q996 : (Jvm.Cond.lays "java/lang/IndexOutOfBoundsException" "java/lang/Throwable" "stackTrace" "[Ljava/lang/StackTraceElement;") ∈ lw_all := lw_g (lw_at lw_m4 193 rfl) rfl
theorem q997 : (Jvm.Cond.lays "java/lang/IndexOutOfBoundsException" "java/lang/Throwable" "suppressedExceptions" "Ljava/util/List;") ∈ lw_all := lw_g (lw_at lw_m4 194 rfl) rfl
theorem q998 : (Jvm.Cond.lays "java/lang/IndexOutOfBoundsException" "java/lang/Throwable" "detailMessage" "Ljava/lang/String;") ∈ lw_all := lw_g (lw_at lw_m4 195 rfl) rfl
theorem q999 : (Jvm.Cond.lays "java/lang/IndexOutOfBoundsException" "java/lang/Throwable" "backtrace" "Ljava/lang/Object;") ∈ lw_all := lw_g (lw_at lw_m4 196 rfl) rfl
theorem q1004 : (Jvm.Cond.instanceMethod ({ cls := "java/lang/IndexOutOfBoundsException", name := "<init>", desc := "(Ljava/lang/String;)V" } : Jvm.MethodName)) ∈ lw_all := lw_g (lw_at lw_m4 201 rfl) rfl
theorem q1005 : (Jvm.Cond.code ({ cls := "java/lang/IndexOutOfBoundsException", name := "<init>", desc := "(Ljava/lang/String;)V" } : Jvm.MethodName) prog_26_method_2_code (2 : Nat) (Option.none : Option Jvm.ClassFile.FieldType)) ∈ lw_all := lw_g (lw_at lw_m4 202 rfl) rfl
theorem q1006 : (Jvm.Cond.methodLink "java/lang/IndexOutOfBoundsException" (7 : Nat) ({ cls := "java/lang/RuntimeException", name := "<init>", desc := "(Ljava/lang/String;)V" } : Jvm.MethodName)) ∈ lw_all := lw_g (lw_at lw_m4 203 rfl) rfl
theorem q1007 : (Jvm.Cond.lays "java/lang/IndexOutOfBoundsException" "java/lang/Throwable" "depth" "I") ∈ lw_all := lw_g (lw_at lw_m4 204 rfl) rfl
theorem q1008 : (Jvm.Cond.superclass "java/lang/IndexOutOfBoundsException" "java/lang/RuntimeException") ∈ lw_all := lw_g (lw_at lw_m4 205 rfl) rfl
theorem q1196 : (Jvm.Cond.declares ({ cls := "java/lang/IndexOutOfBoundsException", name := "<init>", desc := "()V" } : Jvm.MethodName)) ∈ lw_tbl := lw_at lw_m5 153 rfl
theorem q1197 : (Jvm.Cond.declares ({ cls := "java/lang/IndexOutOfBoundsException", name := "<init>", desc := "(Ljava/lang/String;)V" } : Jvm.MethodName)) ∈ lw_tbl := lw_at lw_m5 154 rfl
theorem q1417 : (Jvm.Cond.instanceMethod ({ cls := "java/lang/IndexOutOfBoundsException", name := "<init>", desc := "()V" } : Jvm.MethodName)) ∈ lw_all := lw_g (lw_at lw_m6 134 rfl) rfl
theorem q1418 : (Jvm.Cond.code ({ cls := "java/lang/IndexOutOfBoundsException", name := "<init>", desc := "()V" } : Jvm.MethodName) prog_26_method_1_code (1 : Nat) (Option.none : Option Jvm.ClassFile.FieldType)) ∈ lw_all := lw_g (lw_at lw_m6 135 rfl) rfl
theorem q1419 : (Jvm.Cond.methodLink "java/lang/IndexOutOfBoundsException" (1 : Nat) ({ cls := "java/lang/RuntimeException", name := "<init>", desc := "()V" } : Jvm.MethodName)) ∈ lw_all := lw_g (lw_at lw_m6 136 rfl) rfl
theorem q2036 : (Jvm.Cond.selects "java/lang/IndexOutOfBoundsException" ({ cls := "java/lang/Throwable", name := "toString", desc := "()Ljava/lang/String;" } : Jvm.MethodName) ({ cls := "java/lang/Throwable", name := "toString", desc := "()Ljava/lang/String;" } : Jvm.MethodName)) ∈ lw_all := lw_g (lw_at lw_m9 33 rfl) rfl
theorem q2055 : (Jvm.Cond.selects "java/lang/IndexOutOfBoundsException" ({ cls := "java/lang/Throwable", name := "getLocalizedMessage", desc := "()Ljava/lang/String;" } : Jvm.MethodName) ({ cls := "java/lang/Throwable", name := "getLocalizedMessage", desc := "()Ljava/lang/String;" } : Jvm.MethodName)) ∈ lw_all := lw_g (lw_at lw_m9 52 rfl) rfl
theorem q2073 : (Jvm.Cond.selects "java/lang/IndexOutOfBoundsException" ({ cls := "java/lang/Throwable", name := "getMessage", desc := "()Ljava/lang/String;" } : Jvm.MethodName) ({ cls := "java/lang/Throwable", name := "getMessage", desc := "()Ljava/lang/String;" } : Jvm.MethodName)) ∈ lw_all := lw_g (lw_at lw_m9 70 rfl) rfl
theorem q2777 : (Jvm.Cond.castable "java/lang/IndexOutOfBoundsException" "java/lang/RuntimeException") ∈ lw_tbl := lw_at lw_m12 54 rfl
theorem q2800 : (Jvm.Cond.castable "java/lang/IndexOutOfBoundsException" "java/lang/Object") ∈ lw_tbl := lw_at lw_m12 77 rfl
theorem in_J18 : ∀ w ∈ wsJ180, w ∈ lw_all := lw_in wsJ180 [995, 996, 997, 998, 999, 1007] (by decide +kernel) (by decide +kernel)
/-! java/lang/ArrayIndexOutOfBoundsException -/
set_option maxRecDepth 100000
def RJ19 : String := "java/lang/ArrayIndexOutOfBoundsException"
def TJ19 : u_T := fun k => match k with
  | 0 => ("java/lang/Throwable", "cause", "Ljava/lang/Throwable;", false)
  | 1 => ("java/lang/Throwable", "stackTrace", "[Ljava/lang/StackTraceElement;", false)
  | 2 => ("java/lang/Throwable", "suppressedExceptions", "Ljava/util/List;", false)
  | 3 => ("java/lang/Throwable", "detailMessage", "Ljava/lang/String;", false)
  | 4 => ("java/lang/Throwable", "backtrace", "Ljava/lang/Object;", false)
  | _ => ("java/lang/Throwable", "depth", "I", false)
def tyJ19 : Nat → FieldType := fun k => match k with
  | 0 => .object "java/lang/Throwable"
  | 1 => .array (.object "java/lang/StackTraceElement")
  | 2 => .object "java/util/List"
  | 3 => .object "java/lang/String"
  | 4 => .object "java/lang/Object"
  | _ => .int
abbrev wsJ190 : List Cond := u_ws RJ19 TJ19 6
theorem nmJ19 : ∀ a, a < 6 → ∀ b, b < 6 → a ≠ b → (TJ19 a).2.1 ≠ (TJ19 b).2.1 := by decide +kernel
theorem tyJ19_ok : ∀ k, k < 6 → parseFieldDescriptor (TJ19 k).2.2.1 = some (tyJ19 k) := by decide +kernel
abbrev cJ19_init : ByteArray := prog_17_method_3_code
def yJ19_init : MethodName := ⟨RJ19, "<init>", "(I)V"⟩
def dkwJ19_init_0 : List UInt8 := [42, 187, 0, 10, 89, 183, 0, 12, 18, 13, 182, 0, 15, 27, 182, 0, 19, 182, 0, 22, 183, 0, 7, 177]
abbrev dktJ19_init_0 : List UInt8 := dkwJ19_init_0 ++ []
theorem dksJ19_init_0 : cJ19_init.data.toList.drop 0 = dktJ19_init_0 := by decide +kernel
theorem dJ19_init_0 : decode cJ19_init 0 = .ok (.aload_n 0, 1) := dk_42 (dk_at dksJ19_init_0 0 rfl rfl)
theorem dJ19_init_1 : decode cJ19_init 1 = .ok (.new 10, 3) := dk_187 0 10 (dk_at dksJ19_init_0 1 rfl rfl)
theorem dJ19_init_4 : decode cJ19_init 4 = .ok (.dup, 1) := dk_89 (dk_at dksJ19_init_0 4 rfl rfl)
theorem dJ19_init_5 : decode cJ19_init 5 = .ok (.invokespecial 12, 3) := dk_183 0 12 (dk_at dksJ19_init_0 5 rfl rfl)
theorem dJ19_init_8 : decode cJ19_init 8 = .ok (.ldc 13, 2) := dk_18 13 (dk_at dksJ19_init_0 8 rfl rfl)
theorem dJ19_init_10 : decode cJ19_init 10 = .ok (.invokevirtual 15, 3) := dk_182 0 15 (dk_at dksJ19_init_0 10 rfl rfl)
theorem dJ19_init_13 : decode cJ19_init 13 = .ok (.iload_n 1, 1) := dk_27 (dk_at dksJ19_init_0 13 rfl rfl)
theorem dJ19_init_14 : decode cJ19_init 14 = .ok (.invokevirtual 19, 3) := dk_182 0 19 (dk_at dksJ19_init_0 14 rfl rfl)
theorem dJ19_init_17 : decode cJ19_init 17 = .ok (.invokevirtual 22, 3) := dk_182 0 22 (dk_at dksJ19_init_0 17 rfl rfl)
theorem dJ19_init_20 : decode cJ19_init 20 = .ok (.invokespecial 7, 3) := dk_183 0 7 (dk_at dksJ19_init_0 20 rfl rfl)
theorem dJ19_init_23 : decode cJ19_init 23 = .ok (.return_, 1) := dk_177 (dk_at dksJ19_init_0 23 rfl rfl)
abbrev cJ19_init_2 : ByteArray := prog_17_method_2_code
def yJ19_init_2 : MethodName := ⟨RJ19, "<init>", "(Ljava/lang/String;)V"⟩
def dkwJ19_init_2_0 : List UInt8 := [42, 43, 183, 0, 7, 177]
abbrev dktJ19_init_2_0 : List UInt8 := dkwJ19_init_2_0 ++ []
theorem dksJ19_init_2_0 : cJ19_init_2.data.toList.drop 0 = dktJ19_init_2_0 := by decide +kernel
theorem dJ19_init_2_0 : decode cJ19_init_2 0 = .ok (.aload_n 0, 1) := dk_42 (dk_at dksJ19_init_2_0 0 rfl rfl)
theorem dJ19_init_2_1 : decode cJ19_init_2 1 = .ok (.aload_n 1, 1) := dk_43 (dk_at dksJ19_init_2_0 1 rfl rfl)
theorem dJ19_init_2_2 : decode cJ19_init_2 2 = .ok (.invokespecial 7, 3) := dk_183 0 7 (dk_at dksJ19_init_2_0 2 rfl rfl)
theorem dJ19_init_2_5 : decode cJ19_init_2 5 = .ok (.return_, 1) := dk_177 (dk_at dksJ19_init_2_0 5 rfl rfl)
theorem q112 : (Jvm.Cond.initialized "java/lang/ArrayIndexOutOfBoundsException") ∈ lw_all := lw_g (lw_at lw_m1 29 rfl) rfl
theorem q314 : (Jvm.Cond.selects "java/lang/ArrayIndexOutOfBoundsException" ({ cls := "java/lang/Throwable", name := "fillInStackTrace", desc := "()Ljava/lang/Throwable;" } : Jvm.MethodName) ({ cls := "java/lang/Throwable", name := "fillInStackTrace", desc := "()Ljava/lang/Throwable;" } : Jvm.MethodName)) ∈ lw_all := lw_g (lw_at lw_m1 231 rfl) rfl
theorem q507 : (Jvm.Cond.selects "java/lang/ArrayIndexOutOfBoundsException" ({ cls := "java/lang/Object", name := "getClass", desc := "()Ljava/lang/Class;" } : Jvm.MethodName) ({ cls := "java/lang/Object", name := "getClass", desc := "()Ljava/lang/Class;" } : Jvm.MethodName)) ∈ lw_all := lw_g (lw_at lw_m2 184 rfl) rfl
theorem q1194 : (Jvm.Cond.instantiable "java/lang/ArrayIndexOutOfBoundsException" (6 : Nat)) ∈ lw_all := lw_g (lw_at lw_m5 151 rfl) rfl
theorem q1195 : (Jvm.Cond.castable "java/lang/ArrayIndexOutOfBoundsException" "java/lang/ArrayIndexOutOfBoundsException") ∈ lw_tbl := lw_at lw_m5 152 rfl
theorem q1198 : (Jvm.Cond.selects "java/lang/ArrayIndexOutOfBoundsException" ({ cls := "java/lang/Throwable", name := "fillInStackTrace", desc := "(I)Ljava/lang/Throwable;" } : Jvm.MethodName) ({ cls := "java/lang/Throwable", name := "fillInStackTrace", desc := "(I)Ljava/lang/Throwable;" } : Jvm.MethodName)) ∈ lw_all := lw_g (lw_at lw_m5 155 rfl) rfl
theorem q1199 : (Jvm.Cond.lays "java/lang/ArrayIndexOutOfBoundsException" "java/lang/Throwable" "cause" "Ljava/lang/Throwable;") ∈ lw_all := lw_g (lw_at lw_m5 156 rfl) rfl
theorem q1200 : (Jvm.Cond.lays "java/lang/ArrayIndexOutOfBoundsException" "java/lang/Throwable" "stackTrace" "[Ljava/lang/StackTraceElement;") ∈ lw_all := lw_g (lw_at lw_m5 157 rfl) rfl
theorem q1201 : (Jvm.Cond.lays "java/lang/ArrayIndexOutOfBoundsException" "java/lang/Throwable" "suppressedExceptions" "Ljava/util/List;") ∈ lw_all := lw_g (lw_at lw_m5 158 rfl) rfl
theorem q1202 : (Jvm.Cond.lays "java/lang/ArrayIndexOutOfBoundsException" "java/lang/Throwable" "detailMessage" "Ljava/lang/String;") ∈ lw_all := lw_g (lw_at lw_m5 159 rfl) rfl
theorem q1203 : (Jvm.Cond.lays "java/lang/ArrayIndexOutOfBoundsException" "java/lang/Throwable" "backtrace" "Ljava/lang/Object;") ∈ lw_all := lw_g (lw_at lw_m5 160 rfl) rfl
theorem q1205 : (Jvm.Cond.instanceMethod ({ cls := "java/lang/ArrayIndexOutOfBoundsException", name := "<init>", desc := "(I)V" } : Jvm.MethodName)) ∈ lw_all := lw_g (lw_at lw_m5 162 rfl) rfl
theorem q1206 : (Jvm.Cond.code ({ cls := "java/lang/ArrayIndexOutOfBoundsException", name := "<init>", desc := "(I)V" } : Jvm.MethodName) prog_17_method_3_code (2 : Nat) (Option.none : Option Jvm.ClassFile.FieldType)) ∈ lw_all := lw_g (lw_at lw_m5 163 rfl) rfl
theorem q1207 : (Jvm.Cond.classLink "java/lang/ArrayIndexOutOfBoundsException" (10 : Nat) "java/lang/StringBuilder") ∈ lw_all := lw_g (lw_at lw_m5 164 rfl) rfl
theorem q1208 : (Jvm.Cond.methodLink "java/lang/ArrayIndexOutOfBoundsException" (12 : Nat) ({ cls := "java/lang/StringBuilder", name := "<init>", desc := "()V" } : Jvm.MethodName)) ∈ lw_all := lw_g (lw_at lw_m5 165 rfl) rfl
theorem q1209 : (Jvm.Cond.stringRef "java/lang/ArrayIndexOutOfBoundsException" (13 : Nat) "Array index out of range: ") ∈ lw_tbl := lw_at lw_m5 166 rfl
theorem q1210 : (Jvm.Cond.methodLink "java/lang/ArrayIndexOutOfBoundsException" (15 : Nat) ({ cls := "java/lang/StringBuilder", name := "append", desc := "(Ljava/lang/String;)Ljava/lang/StringBuilder;" } : Jvm.MethodName)) ∈ lw_all := lw_g (lw_at lw_m5 167 rfl) rfl
theorem q1211 : (Jvm.Cond.methodLink "java/lang/ArrayIndexOutOfBoundsException" (19 : Nat) ({ cls := "java/lang/StringBuilder", name := "append", desc := "(I)Ljava/lang/StringBuilder;" } : Jvm.MethodName)) ∈ lw_all := lw_g (lw_at lw_m5 168 rfl) rfl
theorem q1212 : (Jvm.Cond.methodLink "java/lang/ArrayIndexOutOfBoundsException" (22 : Nat) ({ cls := "java/lang/StringBuilder", name := "toString", desc := "()Ljava/lang/String;" } : Jvm.MethodName)) ∈ lw_all := lw_g (lw_at lw_m5 169 rfl) rfl
theorem q1213 : (Jvm.Cond.methodLink "java/lang/ArrayIndexOutOfBoundsException" (7 : Nat) ({ cls := "java/lang/IndexOutOfBoundsException", name := "<init>", desc := "(Ljava/lang/String;)V" } : Jvm.MethodName)) ∈ lw_all := lw_g (lw_at lw_m5 170 rfl) rfl
theorem q1214 : (Jvm.Cond.lays "java/lang/ArrayIndexOutOfBoundsException" "java/lang/Throwable" "depth" "I") ∈ lw_all := lw_g (lw_at lw_m5 171 rfl) rfl
theorem q1215 : (Jvm.Cond.superclass "java/lang/ArrayIndexOutOfBoundsException" "java/lang/IndexOutOfBoundsException") ∈ lw_all := lw_g (lw_at lw_m5 172 rfl) rfl
theorem q1398 : (Jvm.Cond.instanceMethod ({ cls := "java/lang/ArrayIndexOutOfBoundsException", name := "<init>", desc := "(Ljava/lang/String;)V" } : Jvm.MethodName)) ∈ lw_all := lw_g (lw_at lw_m6 115 rfl) rfl
theorem q1399 : (Jvm.Cond.code ({ cls := "java/lang/ArrayIndexOutOfBoundsException", name := "<init>", desc := "(Ljava/lang/String;)V" } : Jvm.MethodName) prog_17_method_2_code (2 : Nat) (Option.none : Option Jvm.ClassFile.FieldType)) ∈ lw_all := lw_g (lw_at lw_m6 116 rfl) rfl
theorem q2031 : (Jvm.Cond.selects "java/lang/ArrayIndexOutOfBoundsException" ({ cls := "java/lang/Throwable", name := "toString", desc := "()Ljava/lang/String;" } : Jvm.MethodName) ({ cls := "java/lang/Throwable", name := "toString", desc := "()Ljava/lang/String;" } : Jvm.MethodName)) ∈ lw_all := lw_g (lw_at lw_m9 28 rfl) rfl
theorem q2050 : (Jvm.Cond.selects "java/lang/ArrayIndexOutOfBoundsException" ({ cls := "java/lang/Throwable", name := "getLocalizedMessage", desc := "()Ljava/lang/String;" } : Jvm.MethodName) ({ cls := "java/lang/Throwable", name := "getLocalizedMessage", desc := "()Ljava/lang/String;" } : Jvm.MethodName)) ∈ lw_all := lw_g (lw_at lw_m9 47 rfl) rfl
theorem q2068 : (Jvm.Cond.selects "java/lang/ArrayIndexOutOfBoundsException" ({ cls := "java/lang/Throwable", name := "getMessage", desc := "()Ljava/lang/String;" } : Jvm.MethodName) ({ cls := "java/lang/Throwable", name := "getMessage", desc := "()Ljava/lang/String;" } : Jvm.MethodName)) ∈ lw_all := lw_g (lw_at lw_m9 65 rfl) rfl
theorem q2768 : (Jvm.Cond.castable "java/lang/ArrayIndexOutOfBoundsException" "java/lang/IndexOutOfBoundsException") ∈ lw_tbl := lw_at lw_m12 45 rfl
theorem q2772 : (Jvm.Cond.castable "java/lang/ArrayIndexOutOfBoundsException" "java/lang/RuntimeException") ∈ lw_tbl := lw_at lw_m12 49 rfl
theorem q2799 : (Jvm.Cond.castable "java/lang/ArrayIndexOutOfBoundsException" "java/lang/Object") ∈ lw_tbl := lw_at lw_m12 76 rfl
theorem in_J19 : ∀ w ∈ wsJ190, w ∈ lw_all := lw_in wsJ190 [1199, 1200, 1201, 1202, 1203, 1214] (by decide +kernel) (by decide +kernel)
/-! java/lang/UnsupportedOperationException -/
set_option maxRecDepth 100000
def RJ20 : String := "java/lang/UnsupportedOperationException"
def TJ20 : u_T := fun k => match k with
  | 0 => ("java/lang/Throwable", "cause", "Ljava/lang/Throwable;", false)
  | 1 => ("java/lang/Throwable", "stackTrace", "[Ljava/lang/StackTraceElement;", false)
  | 2 => ("java/lang/Throwable", "suppressedExceptions", "Ljava/util/List;", false)
  | 3 => ("java/lang/Throwable", "detailMessage", "Ljava/lang/String;", false)
  | 4 => ("java/lang/Throwable", "backtrace", "Ljava/lang/Object;", false)
  | _ => ("java/lang/Throwable", "depth", "I", false)
def tyJ20 : Nat → FieldType := fun k => match k with
  | 0 => .object "java/lang/Throwable"
  | 1 => .array (.object "java/lang/StackTraceElement")
  | 2 => .object "java/util/List"
  | 3 => .object "java/lang/String"
  | 4 => .object "java/lang/Object"
  | _ => .int
abbrev wsJ200 : List Cond := u_ws RJ20 TJ20 6
theorem nmJ20 : ∀ a, a < 6 → ∀ b, b < 6 → a ≠ b → (TJ20 a).2.1 ≠ (TJ20 b).2.1 := by decide +kernel
theorem tyJ20_ok : ∀ k, k < 6 → parseFieldDescriptor (TJ20 k).2.2.1 = some (tyJ20 k) := by decide +kernel
abbrev cJ20_init : ByteArray := prog_43_method_1_code
def yJ20_init : MethodName := ⟨RJ20, "<init>", "()V"⟩
theorem dJ20_init_0 : decode cJ20_init 0 = .ok (.aload_n 0, 1) := by decide +kernel
theorem dJ20_init_1 : decode cJ20_init 1 = .ok (.invokespecial 1, 3) := by decide +kernel
theorem dJ20_init_4 : decode cJ20_init 4 = .ok (.return_, 1) := by decide +kernel
theorem q113 : (Jvm.Cond.initialized "java/lang/UnsupportedOperationException") ∈ lw_all := lw_g (lw_at lw_m1 30 rfl) rfl
theorem q341 : (Jvm.Cond.selects "java/lang/UnsupportedOperationException" ({ cls := "java/lang/Throwable", name := "fillInStackTrace", desc := "()Ljava/lang/Throwable;" } : Jvm.MethodName) ({ cls := "java/lang/Throwable", name := "fillInStackTrace", desc := "()Ljava/lang/Throwable;" } : Jvm.MethodName)) ∈ lw_all := lw_g (lw_at lw_m2 18 rfl) rfl
theorem q520 : (Jvm.Cond.selects "java/lang/UnsupportedOperationException" ({ cls := "java/lang/Object", name := "getClass", desc := "()Ljava/lang/Class;" } : Jvm.MethodName) ({ cls := "java/lang/Object", name := "getClass", desc := "()Ljava/lang/Class;" } : Jvm.MethodName)) ∈ lw_all := lw_g (lw_at lw_m2 197 rfl) rfl
theorem q1437 : (Jvm.Cond.instantiable "java/lang/UnsupportedOperationException" (6 : Nat)) ∈ lw_all := lw_g (lw_at lw_m6 154 rfl) rfl
theorem q1438 : (Jvm.Cond.castable "java/lang/UnsupportedOperationException" "java/lang/UnsupportedOperationException") ∈ lw_tbl := lw_at lw_m6 155 rfl
theorem q1439 : (Jvm.Cond.selects "java/lang/UnsupportedOperationException" ({ cls := "java/lang/Throwable", name := "fillInStackTrace", desc := "(I)Ljava/lang/Throwable;" } : Jvm.MethodName) ({ cls := "java/lang/Throwable", name := "fillInStackTrace", desc := "(I)Ljava/lang/Throwable;" } : Jvm.MethodName)) ∈ lw_all := lw_g (lw_at lw_m6 156 rfl) rfl
theorem q1440 : (Jvm.Cond.lays "java/lang/UnsupportedOperationException" "java/lang/Throwable" "cause" "Ljava/lang/Throwable;") ∈ lw_all := lw_g (lw_at lw_m6 157 rfl) rfl
theorem q1441 : (Jvm.Cond.lays "java/lang/UnsupportedOperationException" "java/lang/Throwable" "stackTrace" "[Ljava/lang/StackTraceElement;") ∈ lw_all := lw_g (lw_at lw_m6 158 rfl) rfl
theorem q1442 : (Jvm.Cond.lays "java/lang/UnsupportedOperationException" "java/lang/Throwable" "suppressedExceptions" "Ljava/util/List;") ∈ lw_all := lw_g (lw_at lw_m6 159 rfl) rfl
theorem q1443 : (Jvm.Cond.lays "java/lang/UnsupportedOperationException" "java/lang/Throwable" "detailMessage" "Ljava/lang/String;") ∈ lw_all := lw_g (lw_at lw_m6 160 rfl) rfl
theorem q1444 : (Jvm.Cond.lays "java/lang/UnsupportedOperationException" "java/lang/Throwable" "backtrace" "Ljava/lang/Object;") ∈ lw_all := lw_g (lw_at lw_m6 161 rfl) rfl
theorem q1446 : (Jvm.Cond.instanceMethod ({ cls := "java/lang/UnsupportedOperationException", name := "<init>", desc := "()V" } : Jvm.MethodName)) ∈ lw_all := lw_g (lw_at lw_m6 163 rfl) rfl
theorem q1447 : (Jvm.Cond.code ({ cls := "java/lang/UnsupportedOperationException", name := "<init>", desc := "()V" } : Jvm.MethodName) prog_43_method_1_code (1 : Nat) (Option.none : Option Jvm.ClassFile.FieldType)) ∈ lw_all := lw_g (lw_at lw_m6 164 rfl) rfl
theorem q1448 : (Jvm.Cond.methodLink "java/lang/UnsupportedOperationException" (1 : Nat) ({ cls := "java/lang/RuntimeException", name := "<init>", desc := "()V" } : Jvm.MethodName)) ∈ lw_all := lw_g (lw_at lw_m6 165 rfl) rfl
theorem q1449 : (Jvm.Cond.lays "java/lang/UnsupportedOperationException" "java/lang/Throwable" "depth" "I") ∈ lw_all := lw_g (lw_at lw_m6 166 rfl) rfl
theorem q1450 : (Jvm.Cond.superclass "java/lang/UnsupportedOperationException" "java/lang/RuntimeException") ∈ lw_all := lw_g (lw_at lw_m6 167 rfl) rfl
theorem q2040 : (Jvm.Cond.selects "java/lang/UnsupportedOperationException" ({ cls := "java/lang/Throwable", name := "toString", desc := "()Ljava/lang/String;" } : Jvm.MethodName) ({ cls := "java/lang/Throwable", name := "toString", desc := "()Ljava/lang/String;" } : Jvm.MethodName)) ∈ lw_all := lw_g (lw_at lw_m9 37 rfl) rfl
theorem q2059 : (Jvm.Cond.selects "java/lang/UnsupportedOperationException" ({ cls := "java/lang/Throwable", name := "getLocalizedMessage", desc := "()Ljava/lang/String;" } : Jvm.MethodName) ({ cls := "java/lang/Throwable", name := "getLocalizedMessage", desc := "()Ljava/lang/String;" } : Jvm.MethodName)) ∈ lw_all := lw_g (lw_at lw_m9 56 rfl) rfl
theorem q2083 : (Jvm.Cond.selects "java/lang/UnsupportedOperationException" ({ cls := "java/lang/Throwable", name := "getMessage", desc := "()Ljava/lang/String;" } : Jvm.MethodName) ({ cls := "java/lang/Throwable", name := "getMessage", desc := "()Ljava/lang/String;" } : Jvm.MethodName)) ∈ lw_all := lw_g (lw_at lw_m9 80 rfl) rfl
theorem q2781 : (Jvm.Cond.castable "java/lang/UnsupportedOperationException" "java/lang/RuntimeException") ∈ lw_tbl := lw_at lw_m12 58 rfl
theorem q2801 : (Jvm.Cond.castable "java/lang/UnsupportedOperationException" "java/lang/Object") ∈ lw_tbl := lw_at lw_m12 78 rfl
theorem in_J20 : ∀ w ∈ wsJ200, w ∈ lw_all := lw_in wsJ200 [1440, 1441, 1442, 1443, 1444, 1449] (by decide +kernel) (by decide +kernel)
/-! java/util/Objects -/
set_option maxRecDepth 100000
def RJ21 : String := "java/util/Objects"
abbrev cJ21_requireNonNull : ByteArray := prog_69_method_10_code
def yJ21_requireNonNull : MethodName := ⟨RJ21, "requireNonNull", "(Ljava/lang/Object;)Ljava/lang/Object;"⟩
def dkwJ21_requireNonNull_0 : List UInt8 := [42, 199, 0, 11, 187, 0, 84, 89, 183, 0, 86, 191, 42, 176]
abbrev dktJ21_requireNonNull_0 : List UInt8 := dkwJ21_requireNonNull_0 ++ []
theorem dksJ21_requireNonNull_0 : cJ21_requireNonNull.data.toList.drop 0 = dktJ21_requireNonNull_0 := by decide +kernel
theorem dJ21_requireNonNull_0 : decode cJ21_requireNonNull 0 = .ok (.aload_n 0, 1) := dk_42 (dk_at dksJ21_requireNonNull_0 0 rfl rfl)
theorem dJ21_requireNonNull_1 : decode cJ21_requireNonNull 1 = .ok (.ifnonnull 11, 3) := dk_199 0 11 (dk_at dksJ21_requireNonNull_0 1 rfl rfl)
theorem dJ21_requireNonNull_4 : decode cJ21_requireNonNull 4 = .ok (.new 84, 3) := dk_187 0 84 (dk_at dksJ21_requireNonNull_0 4 rfl rfl)
theorem dJ21_requireNonNull_7 : decode cJ21_requireNonNull 7 = .ok (.dup, 1) := dk_89 (dk_at dksJ21_requireNonNull_0 7 rfl rfl)
theorem dJ21_requireNonNull_8 : decode cJ21_requireNonNull 8 = .ok (.invokespecial 86, 3) := dk_183 0 86 (dk_at dksJ21_requireNonNull_0 8 rfl rfl)
theorem dJ21_requireNonNull_11 : decode cJ21_requireNonNull 11 = .ok (.athrow, 1) := dk_191 (dk_at dksJ21_requireNonNull_0 11 rfl rfl)
theorem dJ21_requireNonNull_12 : decode cJ21_requireNonNull 12 = .ok (.aload_n 0, 1) := dk_42 (dk_at dksJ21_requireNonNull_0 12 rfl rfl)
theorem dJ21_requireNonNull_13 : decode cJ21_requireNonNull 13 = .ok (.areturn, 1) := dk_176 (dk_at dksJ21_requireNonNull_0 13 rfl rfl)
theorem q115 : (Jvm.Cond.initialized "java/util/Objects") ∈ lw_all := lw_g (lw_at lw_m1 32 rfl) rfl
theorem q739 : (Jvm.Cond.static ({ cls := "java/util/Objects", name := "requireNonNull", desc := "(Ljava/lang/Object;)Ljava/lang/Object;" } : Jvm.MethodName)) ∈ lw_all := lw_g (lw_at lw_m3 176 rfl) rfl
theorem q740 : (Jvm.Cond.code ({ cls := "java/util/Objects", name := "requireNonNull", desc := "(Ljava/lang/Object;)Ljava/lang/Object;" } : Jvm.MethodName) prog_69_method_10_code (1 : Nat) (Option.some (Jvm.ClassFile.FieldType.object "java/lang/Object"))) ∈ lw_all := lw_g (lw_at lw_m3 177 rfl) rfl
theorem q741 : (Jvm.Cond.classLink "java/util/Objects" (84 : Nat) "java/lang/NullPointerException") ∈ lw_all := lw_g (lw_at lw_m3 178 rfl) rfl
theorem q742 : (Jvm.Cond.methodLink "java/util/Objects" (86 : Nat) ({ cls := "java/lang/NullPointerException", name := "<init>", desc := "()V" } : Jvm.MethodName)) ∈ lw_all := lw_g (lw_at lw_m3 179 rfl) rfl
/-! java/util/NoSuchElementException -/
set_option maxRecDepth 100000
def RJ22 : String := "java/util/NoSuchElementException"
def TJ22 : u_T := fun k => match k with
  | 0 => ("java/lang/Throwable", "cause", "Ljava/lang/Throwable;", false)
  | 1 => ("java/lang/Throwable", "stackTrace", "[Ljava/lang/StackTraceElement;", false)
  | 2 => ("java/lang/Throwable", "suppressedExceptions", "Ljava/util/List;", false)
  | 3 => ("java/lang/Throwable", "detailMessage", "Ljava/lang/String;", false)
  | 4 => ("java/lang/Throwable", "backtrace", "Ljava/lang/Object;", false)
  | _ => ("java/lang/Throwable", "depth", "I", false)
def tyJ22 : Nat → FieldType := fun k => match k with
  | 0 => .object "java/lang/Throwable"
  | 1 => .array (.object "java/lang/StackTraceElement")
  | 2 => .object "java/util/List"
  | 3 => .object "java/lang/String"
  | 4 => .object "java/lang/Object"
  | _ => .int
abbrev wsJ220 : List Cond := u_ws RJ22 TJ22 6
theorem nmJ22 : ∀ a, a < 6 → ∀ b, b < 6 → a ≠ b → (TJ22 a).2.1 ≠ (TJ22 b).2.1 := by decide +kernel
theorem tyJ22_ok : ∀ k, k < 6 → parseFieldDescriptor (TJ22 k).2.2.1 = some (tyJ22 k) := by decide +kernel
abbrev cJ22_init : ByteArray := prog_68_method_1_code
def yJ22_init : MethodName := ⟨RJ22, "<init>", "()V"⟩
theorem dJ22_init_0 : decode cJ22_init 0 = .ok (.aload_n 0, 1) := by decide +kernel
theorem dJ22_init_1 : decode cJ22_init 1 = .ok (.invokespecial 1, 3) := by decide +kernel
theorem dJ22_init_4 : decode cJ22_init 4 = .ok (.return_, 1) := by decide +kernel
abbrev cJ22_init_2 : ByteArray := prog_68_method_3_code
def yJ22_init_2 : MethodName := ⟨RJ22, "<init>", "(Ljava/lang/Throwable;)V"⟩
def dkwJ22_init_2_0 : List UInt8 := [42, 43, 183, 0, 10, 177]
abbrev dktJ22_init_2_0 : List UInt8 := dkwJ22_init_2_0 ++ []
theorem dksJ22_init_2_0 : cJ22_init_2.data.toList.drop 0 = dktJ22_init_2_0 := by decide +kernel
theorem dJ22_init_2_0 : decode cJ22_init_2 0 = .ok (.aload_n 0, 1) := dk_42 (dk_at dksJ22_init_2_0 0 rfl rfl)
theorem dJ22_init_2_1 : decode cJ22_init_2 1 = .ok (.aload_n 1, 1) := dk_43 (dk_at dksJ22_init_2_0 1 rfl rfl)
theorem dJ22_init_2_2 : decode cJ22_init_2 2 = .ok (.invokespecial 10, 3) := dk_183 0 10 (dk_at dksJ22_init_2_0 2 rfl rfl)
theorem dJ22_init_2_5 : decode cJ22_init_2 5 = .ok (.return_, 1) := dk_177 (dk_at dksJ22_init_2_0 5 rfl rfl)
theorem q116 : (Jvm.Cond.initialized "java/util/NoSuchElementException") ∈ lw_all := lw_g (lw_at lw_m1 33 rfl) rfl
theorem q343 : (Jvm.Cond.selects "java/util/NoSuchElementException" ({ cls := "java/lang/Throwable", name := "fillInStackTrace", desc := "()Ljava/lang/Throwable;" } : Jvm.MethodName) ({ cls := "java/lang/Throwable", name := "fillInStackTrace", desc := "()Ljava/lang/Throwable;" } : Jvm.MethodName)) ∈ lw_all := lw_g (lw_at lw_m2 20 rfl) rfl
theorem q529 : (Jvm.Cond.selects "java/util/NoSuchElementException" ({ cls := "java/lang/Object", name := "getClass", desc := "()Ljava/lang/Class;" } : Jvm.MethodName) ({ cls := "java/lang/Object", name := "getClass", desc := "()Ljava/lang/Class;" } : Jvm.MethodName)) ∈ lw_all := lw_g (lw_at lw_m2 206 rfl) rfl
theorem q1503 : (Jvm.Cond.instantiable "java/util/NoSuchElementException" (6 : Nat)) ∈ lw_all := lw_g (lw_at lw_m6 220 rfl) rfl
theorem q1504 : (Jvm.Cond.castable "java/util/NoSuchElementException" "java/util/NoSuchElementException") ∈ lw_tbl := lw_at lw_m6 221 rfl
theorem q1505 : (Jvm.Cond.selects "java/util/NoSuchElementException" ({ cls := "java/lang/Throwable", name := "fillInStackTrace", desc := "(I)Ljava/lang/Throwable;" } : Jvm.MethodName) ({ cls := "java/lang/Throwable", name := "fillInStackTrace", desc := "(I)Ljava/lang/Throwable;" } : Jvm.MethodName)) ∈ lw_all := lw_g (lw_at lw_m6 222 rfl) rfl
theorem q1506 : (Jvm.Cond.lays "java/util/NoSuchElementException" "java/lang/Throwable" "cause" "Ljava/lang/Throwable;") ∈ lw_all := lw_g (lw_at lw_m6 223 rfl) rfl
theorem q1507 : (Jvm.Cond.lays "java/util/NoSuchElementException" "java/lang/Throwable" "stackTrace" "[Ljava/lang/StackTraceElement;") ∈ lw_all := lw_g (lw_at lw_m6 224 rfl) rfl
theorem q1508 : (Jvm.Cond.lays "java/util/NoSuchElementException" "java/lang/Throwable" "suppressedExceptions" "Ljava/util/List;") ∈ lw_all := lw_g (lw_at lw_m6 225 rfl) rfl
theorem q1509 : (Jvm.Cond.lays "java/util/NoSuchElementException" "java/lang/Throwable" "detailMessage" "Ljava/lang/String;") ∈ lw_all := lw_g (lw_at lw_m6 226 rfl) rfl
theorem q1510 : (Jvm.Cond.lays "java/util/NoSuchElementException" "java/lang/Throwable" "backtrace" "Ljava/lang/Object;") ∈ lw_all := lw_g (lw_at lw_m6 227 rfl) rfl
theorem q1512 : (Jvm.Cond.instanceMethod ({ cls := "java/util/NoSuchElementException", name := "<init>", desc := "()V" } : Jvm.MethodName)) ∈ lw_all := lw_g (lw_at lw_m6 229 rfl) rfl
theorem q1513 : (Jvm.Cond.code ({ cls := "java/util/NoSuchElementException", name := "<init>", desc := "()V" } : Jvm.MethodName) prog_68_method_1_code (1 : Nat) (Option.none : Option Jvm.ClassFile.FieldType)) ∈ lw_all := lw_g (lw_at lw_m6 230 rfl) rfl
theorem q1514 : (Jvm.Cond.methodLink "java/util/NoSuchElementException" (1 : Nat) ({ cls := "java/lang/RuntimeException", name := "<init>", desc := "()V" } : Jvm.MethodName)) ∈ lw_all := lw_g (lw_at lw_m6 231 rfl) rfl
theorem q1515 : (Jvm.Cond.lays "java/util/NoSuchElementException" "java/lang/Throwable" "depth" "I") ∈ lw_all := lw_g (lw_at lw_m6 232 rfl) rfl
theorem q1516 : (Jvm.Cond.superclass "java/util/NoSuchElementException" "java/lang/RuntimeException") ∈ lw_all := lw_g (lw_at lw_m6 233 rfl) rfl
theorem q2015 : (Jvm.Cond.instanceMethod ({ cls := "java/util/NoSuchElementException", name := "<init>", desc := "(Ljava/lang/Throwable;)V" } : Jvm.MethodName)) ∈ lw_all := lw_g (lw_at lw_m9 12 rfl) rfl
theorem q2016 : (Jvm.Cond.code ({ cls := "java/util/NoSuchElementException", name := "<init>", desc := "(Ljava/lang/Throwable;)V" } : Jvm.MethodName) prog_68_method_3_code (2 : Nat) (Option.none : Option Jvm.ClassFile.FieldType)) ∈ lw_all := lw_g (lw_at lw_m9 13 rfl) rfl
theorem q2017 : (Jvm.Cond.methodLink "java/util/NoSuchElementException" (10 : Nat) ({ cls := "java/lang/RuntimeException", name := "<init>", desc := "(Ljava/lang/Throwable;)V" } : Jvm.MethodName)) ∈ lw_all := lw_g (lw_at lw_m9 14 rfl) rfl
theorem q2042 : (Jvm.Cond.selects "java/util/NoSuchElementException" ({ cls := "java/lang/Throwable", name := "toString", desc := "()Ljava/lang/String;" } : Jvm.MethodName) ({ cls := "java/lang/Throwable", name := "toString", desc := "()Ljava/lang/String;" } : Jvm.MethodName)) ∈ lw_all := lw_g (lw_at lw_m9 39 rfl) rfl
theorem q2061 : (Jvm.Cond.selects "java/util/NoSuchElementException" ({ cls := "java/lang/Throwable", name := "getLocalizedMessage", desc := "()Ljava/lang/String;" } : Jvm.MethodName) ({ cls := "java/lang/Throwable", name := "getLocalizedMessage", desc := "()Ljava/lang/String;" } : Jvm.MethodName)) ∈ lw_all := lw_g (lw_at lw_m9 58 rfl) rfl
theorem q2085 : (Jvm.Cond.selects "java/util/NoSuchElementException" ({ cls := "java/lang/Throwable", name := "getMessage", desc := "()Ljava/lang/String;" } : Jvm.MethodName) ({ cls := "java/lang/Throwable", name := "getMessage", desc := "()Ljava/lang/String;" } : Jvm.MethodName)) ∈ lw_all := lw_g (lw_at lw_m9 82 rfl) rfl
theorem q2783 : (Jvm.Cond.castable "java/util/NoSuchElementException" "java/lang/RuntimeException") ∈ lw_tbl := lw_at lw_m12 60 rfl
theorem q2803 : (Jvm.Cond.castable "java/util/NoSuchElementException" "java/lang/Object") ∈ lw_tbl := lw_at lw_m12 80 rfl
theorem in_J22 : ∀ w ∈ wsJ220, w ∈ lw_all := lw_in wsJ220 [1506, 1507, 1508, 1509, 1510, 1515] (by decide +kernel) (by decide +kernel)
/-! java/lang/ArithmeticException -/
set_option maxRecDepth 100000
def RJ23 : String := "java/lang/ArithmeticException"
def TJ23 : u_T := fun k => match k with
  | 0 => ("java/lang/Throwable", "backtrace", "Ljava/lang/Object;", false)
  | 1 => ("java/lang/Throwable", "detailMessage", "Ljava/lang/String;", false)
  | 2 => ("java/lang/Throwable", "cause", "Ljava/lang/Throwable;", false)
  | 3 => ("java/lang/Throwable", "stackTrace", "[Ljava/lang/StackTraceElement;", false)
  | 4 => ("java/lang/Throwable", "depth", "I", false)
  | _ => ("java/lang/Throwable", "suppressedExceptions", "Ljava/util/List;", false)
def tyJ23 : Nat → FieldType := fun k => match k with
  | 0 => .object "java/lang/Object"
  | 1 => .object "java/lang/String"
  | 2 => .object "java/lang/Throwable"
  | 3 => .array (.object "java/lang/StackTraceElement")
  | 4 => .int
  | _ => .object "java/util/List"
abbrev wsJ230 : List Cond := u_ws RJ23 TJ23 6
theorem nmJ23 : ∀ a, a < 6 → ∀ b, b < 6 → a ≠ b → (TJ23 a).2.1 ≠ (TJ23 b).2.1 := by decide +kernel
theorem tyJ23_ok : ∀ k, k < 6 → parseFieldDescriptor (TJ23 k).2.2.1 = some (tyJ23 k) := by decide +kernel
abbrev cJ23_init : ByteArray := prog_16_method_2_code
def yJ23_init : MethodName := ⟨RJ23, "<init>", "(Ljava/lang/String;)V"⟩
def dkwJ23_init_0 : List UInt8 := [42, 43, 183, 0, 7, 177]
abbrev dktJ23_init_0 : List UInt8 := dkwJ23_init_0 ++ []
theorem dksJ23_init_0 : cJ23_init.data.toList.drop 0 = dktJ23_init_0 := by decide +kernel
theorem dJ23_init_0 : decode cJ23_init 0 = .ok (.aload_n 0, 1) := dk_42 (dk_at dksJ23_init_0 0 rfl rfl)
theorem dJ23_init_1 : decode cJ23_init 1 = .ok (.aload_n 1, 1) := dk_43 (dk_at dksJ23_init_0 1 rfl rfl)
theorem dJ23_init_2 : decode cJ23_init 2 = .ok (.invokespecial 7, 3) := dk_183 0 7 (dk_at dksJ23_init_0 2 rfl rfl)
theorem dJ23_init_5 : decode cJ23_init 5 = .ok (.return_, 1) := dk_177 (dk_at dksJ23_init_0 5 rfl rfl)
abbrev cJ23_init_2 : ByteArray := prog_16_method_1_code
def yJ23_init_2 : MethodName := ⟨RJ23, "<init>", "()V"⟩
theorem dJ23_init_2_0 : decode cJ23_init_2 0 = .ok (.aload_n 0, 1) := by decide +kernel
theorem dJ23_init_2_1 : decode cJ23_init_2 1 = .ok (.invokespecial 1, 3) := by decide +kernel
theorem dJ23_init_2_4 : decode cJ23_init_2 4 = .ok (.return_, 1) := by decide +kernel
theorem q117 : (Jvm.Cond.initialized "java/lang/ArithmeticException") ∈ lw_all := lw_g (lw_at lw_m1 34 rfl) rfl
theorem q313 : (Jvm.Cond.selects "java/lang/ArithmeticException" ({ cls := "java/lang/Throwable", name := "fillInStackTrace", desc := "()Ljava/lang/Throwable;" } : Jvm.MethodName) ({ cls := "java/lang/Throwable", name := "fillInStackTrace", desc := "()Ljava/lang/Throwable;" } : Jvm.MethodName)) ∈ lw_all := lw_g (lw_at lw_m1 230 rfl) rfl
theorem q506 : (Jvm.Cond.selects "java/lang/ArithmeticException" ({ cls := "java/lang/Object", name := "getClass", desc := "()Ljava/lang/Class;" } : Jvm.MethodName) ({ cls := "java/lang/Object", name := "getClass", desc := "()Ljava/lang/Class;" } : Jvm.MethodName)) ∈ lw_all := lw_g (lw_at lw_m2 183 rfl) rfl
theorem q1592 : (Jvm.Cond.instantiable "java/lang/ArithmeticException" (6 : Nat)) ∈ lw_all := lw_g (lw_at lw_m7 69 rfl) rfl
theorem q1593 : (Jvm.Cond.instanceMethod ({ cls := "java/lang/ArithmeticException", name := "<init>", desc := "(Ljava/lang/String;)V" } : Jvm.MethodName)) ∈ lw_all := lw_g (lw_at lw_m7 70 rfl) rfl
theorem q1594 : (Jvm.Cond.code ({ cls := "java/lang/ArithmeticException", name := "<init>", desc := "(Ljava/lang/String;)V" } : Jvm.MethodName) prog_16_method_2_code (2 : Nat) (Option.none : Option Jvm.ClassFile.FieldType)) ∈ lw_all := lw_g (lw_at lw_m7 71 rfl) rfl
theorem q1595 : (Jvm.Cond.methodLink "java/lang/ArithmeticException" (7 : Nat) ({ cls := "java/lang/RuntimeException", name := "<init>", desc := "(Ljava/lang/String;)V" } : Jvm.MethodName)) ∈ lw_all := lw_g (lw_at lw_m7 72 rfl) rfl
theorem q1596 : (Jvm.Cond.lays "java/lang/ArithmeticException" "java/lang/Throwable" "backtrace" "Ljava/lang/Object;") ∈ lw_all := lw_g (lw_at lw_m7 73 rfl) rfl
theorem q1597 : (Jvm.Cond.lays "java/lang/ArithmeticException" "java/lang/Throwable" "detailMessage" "Ljava/lang/String;") ∈ lw_all := lw_g (lw_at lw_m7 74 rfl) rfl
theorem q1598 : (Jvm.Cond.lays "java/lang/ArithmeticException" "java/lang/Throwable" "cause" "Ljava/lang/Throwable;") ∈ lw_all := lw_g (lw_at lw_m7 75 rfl) rfl
theorem q1599 : (Jvm.Cond.lays "java/lang/ArithmeticException" "java/lang/Throwable" "stackTrace" "[Ljava/lang/StackTraceElement;") ∈ lw_all := lw_g (lw_at lw_m7 76 rfl) rfl
theorem q1600 : (Jvm.Cond.lays "java/lang/ArithmeticException" "java/lang/Throwable" "depth" "I") ∈ lw_all := lw_g (lw_at lw_m7 77 rfl) rfl
theorem q1601 : (Jvm.Cond.lays "java/lang/ArithmeticException" "java/lang/Throwable" "suppressedExceptions" "Ljava/util/List;") ∈ lw_all := lw_g (lw_at lw_m7 78 rfl) rfl
theorem q1602 : (Jvm.Cond.superclass "java/lang/ArithmeticException" "java/lang/RuntimeException") ∈ lw_all := lw_g (lw_at lw_m7 79 rfl) rfl
theorem q1603 : (Jvm.Cond.castable "java/lang/ArithmeticException" "java/lang/ArithmeticException") ∈ lw_tbl := lw_at lw_m7 80 rfl
theorem q1604 : (Jvm.Cond.selects "java/lang/ArithmeticException" ({ cls := "java/lang/Throwable", name := "fillInStackTrace", desc := "(I)Ljava/lang/Throwable;" } : Jvm.MethodName) ({ cls := "java/lang/Throwable", name := "fillInStackTrace", desc := "(I)Ljava/lang/Throwable;" } : Jvm.MethodName)) ∈ lw_all := lw_g (lw_at lw_m7 81 rfl) rfl
theorem q1614 : (Jvm.Cond.instanceMethod ({ cls := "java/lang/ArithmeticException", name := "<init>", desc := "()V" } : Jvm.MethodName)) ∈ lw_all := lw_g (lw_at lw_m7 91 rfl) rfl
theorem q1615 : (Jvm.Cond.code ({ cls := "java/lang/ArithmeticException", name := "<init>", desc := "()V" } : Jvm.MethodName) prog_16_method_1_code (1 : Nat) (Option.none : Option Jvm.ClassFile.FieldType)) ∈ lw_all := lw_g (lw_at lw_m7 92 rfl) rfl
theorem q1616 : (Jvm.Cond.methodLink "java/lang/ArithmeticException" (1 : Nat) ({ cls := "java/lang/RuntimeException", name := "<init>", desc := "()V" } : Jvm.MethodName)) ∈ lw_all := lw_g (lw_at lw_m7 93 rfl) rfl
theorem q2030 : (Jvm.Cond.selects "java/lang/ArithmeticException" ({ cls := "java/lang/Throwable", name := "toString", desc := "()Ljava/lang/String;" } : Jvm.MethodName) ({ cls := "java/lang/Throwable", name := "toString", desc := "()Ljava/lang/String;" } : Jvm.MethodName)) ∈ lw_all := lw_g (lw_at lw_m9 27 rfl) rfl
theorem q2049 : (Jvm.Cond.selects "java/lang/ArithmeticException" ({ cls := "java/lang/Throwable", name := "getLocalizedMessage", desc := "()Ljava/lang/String;" } : Jvm.MethodName) ({ cls := "java/lang/Throwable", name := "getLocalizedMessage", desc := "()Ljava/lang/String;" } : Jvm.MethodName)) ∈ lw_all := lw_g (lw_at lw_m9 46 rfl) rfl
theorem q2067 : (Jvm.Cond.selects "java/lang/ArithmeticException" ({ cls := "java/lang/Throwable", name := "getMessage", desc := "()Ljava/lang/String;" } : Jvm.MethodName) ({ cls := "java/lang/Throwable", name := "getMessage", desc := "()Ljava/lang/String;" } : Jvm.MethodName)) ∈ lw_all := lw_g (lw_at lw_m9 64 rfl) rfl
theorem q2771 : (Jvm.Cond.castable "java/lang/ArithmeticException" "java/lang/RuntimeException") ∈ lw_tbl := lw_at lw_m12 48 rfl
theorem q2804 : (Jvm.Cond.castable "java/lang/ArithmeticException" "java/lang/Object") ∈ lw_tbl := lw_at lw_m12 81 rfl
theorem in_J23 : ∀ w ∈ wsJ230, w ∈ lw_all := lw_in wsJ230 [1596, 1597, 1598, 1599, 1600, 1601] (by decide +kernel) (by decide +kernel)
/-! java/lang/StringIndexOutOfBoundsException -/
set_option maxRecDepth 100000
def RJ24 : String := "java/lang/StringIndexOutOfBoundsException"
def TJ24 : u_T := fun k => match k with
  | 0 => ("java/lang/Throwable", "backtrace", "Ljava/lang/Object;", false)
  | 1 => ("java/lang/Throwable", "detailMessage", "Ljava/lang/String;", false)
  | 2 => ("java/lang/Throwable", "cause", "Ljava/lang/Throwable;", false)
  | 3 => ("java/lang/Throwable", "stackTrace", "[Ljava/lang/StackTraceElement;", false)
  | 4 => ("java/lang/Throwable", "depth", "I", false)
  | _ => ("java/lang/Throwable", "suppressedExceptions", "Ljava/util/List;", false)
def tyJ24 : Nat → FieldType := fun k => match k with
  | 0 => .object "java/lang/Object"
  | 1 => .object "java/lang/String"
  | 2 => .object "java/lang/Throwable"
  | 3 => .array (.object "java/lang/StackTraceElement")
  | 4 => .int
  | _ => .object "java/util/List"
abbrev wsJ240 : List Cond := u_ws RJ24 TJ24 6
theorem nmJ24 : ∀ a, a < 6 → ∀ b, b < 6 → a ≠ b → (TJ24 a).2.1 ≠ (TJ24 b).2.1 := by decide +kernel
theorem tyJ24_ok : ∀ k, k < 6 → parseFieldDescriptor (TJ24 k).2.2.1 = some (tyJ24 k) := by decide +kernel
abbrev cJ24_init : ByteArray := prog_37_method_3_code
def yJ24_init : MethodName := ⟨RJ24, "<init>", "(I)V"⟩
def dkwJ24_init_0 : List UInt8 := [42, 187, 0, 10, 89, 183, 0, 12, 18, 13, 182, 0, 15, 27, 182, 0, 19, 182, 0, 22, 183, 0, 7, 177]
abbrev dktJ24_init_0 : List UInt8 := dkwJ24_init_0 ++ []
theorem dksJ24_init_0 : cJ24_init.data.toList.drop 0 = dktJ24_init_0 := by decide +kernel
theorem dJ24_init_0 : decode cJ24_init 0 = .ok (.aload_n 0, 1) := dk_42 (dk_at dksJ24_init_0 0 rfl rfl)
theorem dJ24_init_1 : decode cJ24_init 1 = .ok (.new 10, 3) := dk_187 0 10 (dk_at dksJ24_init_0 1 rfl rfl)
theorem dJ24_init_4 : decode cJ24_init 4 = .ok (.dup, 1) := dk_89 (dk_at dksJ24_init_0 4 rfl rfl)
theorem dJ24_init_5 : decode cJ24_init 5 = .ok (.invokespecial 12, 3) := dk_183 0 12 (dk_at dksJ24_init_0 5 rfl rfl)
theorem dJ24_init_8 : decode cJ24_init 8 = .ok (.ldc 13, 2) := dk_18 13 (dk_at dksJ24_init_0 8 rfl rfl)
theorem dJ24_init_10 : decode cJ24_init 10 = .ok (.invokevirtual 15, 3) := dk_182 0 15 (dk_at dksJ24_init_0 10 rfl rfl)
theorem dJ24_init_13 : decode cJ24_init 13 = .ok (.iload_n 1, 1) := dk_27 (dk_at dksJ24_init_0 13 rfl rfl)
theorem dJ24_init_14 : decode cJ24_init 14 = .ok (.invokevirtual 19, 3) := dk_182 0 19 (dk_at dksJ24_init_0 14 rfl rfl)
theorem dJ24_init_17 : decode cJ24_init 17 = .ok (.invokevirtual 22, 3) := dk_182 0 22 (dk_at dksJ24_init_0 17 rfl rfl)
theorem dJ24_init_20 : decode cJ24_init 20 = .ok (.invokespecial 7, 3) := dk_183 0 7 (dk_at dksJ24_init_0 20 rfl rfl)
theorem dJ24_init_23 : decode cJ24_init 23 = .ok (.return_, 1) := dk_177 (dk_at dksJ24_init_0 23 rfl rfl)
theorem q118 : (Jvm.Cond.initialized "java/lang/StringIndexOutOfBoundsException") ∈ lw_all := lw_g (lw_at lw_m1 35 rfl) rfl
theorem q340 : (Jvm.Cond.selects "java/lang/StringIndexOutOfBoundsException" ({ cls := "java/lang/Throwable", name := "fillInStackTrace", desc := "()Ljava/lang/Throwable;" } : Jvm.MethodName) ({ cls := "java/lang/Throwable", name := "fillInStackTrace", desc := "()Ljava/lang/Throwable;" } : Jvm.MethodName)) ∈ lw_all := lw_g (lw_at lw_m2 17 rfl) rfl
theorem q518 : (Jvm.Cond.selects "java/lang/StringIndexOutOfBoundsException" ({ cls := "java/lang/Object", name := "getClass", desc := "()Ljava/lang/Class;" } : Jvm.MethodName) ({ cls := "java/lang/Object", name := "getClass", desc := "()Ljava/lang/Class;" } : Jvm.MethodName)) ∈ lw_all := lw_g (lw_at lw_m2 195 rfl) rfl
theorem q842 : (Jvm.Cond.instantiable "java/lang/StringIndexOutOfBoundsException" (6 : Nat)) ∈ lw_all := lw_g (lw_at lw_m4 39 rfl) rfl
theorem q844 : (Jvm.Cond.instanceMethod ({ cls := "java/lang/StringIndexOutOfBoundsException", name := "<init>", desc := "(I)V" } : Jvm.MethodName)) ∈ lw_all := lw_g (lw_at lw_m4 41 rfl) rfl
theorem q845 : (Jvm.Cond.code ({ cls := "java/lang/StringIndexOutOfBoundsException", name := "<init>", desc := "(I)V" } : Jvm.MethodName) prog_37_method_3_code (2 : Nat) (Option.none : Option Jvm.ClassFile.FieldType)) ∈ lw_all := lw_g (lw_at lw_m4 42 rfl) rfl
theorem q846 : (Jvm.Cond.classLink "java/lang/StringIndexOutOfBoundsException" (10 : Nat) "java/lang/StringBuilder") ∈ lw_all := lw_g (lw_at lw_m4 43 rfl) rfl
theorem q847 : (Jvm.Cond.methodLink "java/lang/StringIndexOutOfBoundsException" (12 : Nat) ({ cls := "java/lang/StringBuilder", name := "<init>", desc := "()V" } : Jvm.MethodName)) ∈ lw_all := lw_g (lw_at lw_m4 44 rfl) rfl
theorem q848 : (Jvm.Cond.stringRef "java/lang/StringIndexOutOfBoundsException" (13 : Nat) "String index out of range: ") ∈ lw_tbl := lw_at lw_m4 45 rfl
theorem q849 : (Jvm.Cond.methodLink "java/lang/StringIndexOutOfBoundsException" (15 : Nat) ({ cls := "java/lang/StringBuilder", name := "append", desc := "(Ljava/lang/String;)Ljava/lang/StringBuilder;" } : Jvm.MethodName)) ∈ lw_all := lw_g (lw_at lw_m4 46 rfl) rfl
theorem q1065 : (Jvm.Cond.methodLink "java/lang/StringIndexOutOfBoundsException" (19 : Nat) ({ cls := "java/lang/StringBuilder", name := "append", desc := "(I)Ljava/lang/StringBuilder;" } : Jvm.MethodName)) ∈ lw_all := lw_g (lw_at lw_m5 22 rfl) rfl
theorem q1090 : (Jvm.Cond.methodLink "java/lang/StringIndexOutOfBoundsException" (22 : Nat) ({ cls := "java/lang/StringBuilder", name := "toString", desc := "()Ljava/lang/String;" } : Jvm.MethodName)) ∈ lw_all := lw_g (lw_at lw_m5 47 rfl) rfl
theorem q1173 : (Jvm.Cond.methodLink "java/lang/StringIndexOutOfBoundsException" (7 : Nat) ({ cls := "java/lang/IndexOutOfBoundsException", name := "<init>", desc := "(Ljava/lang/String;)V" } : Jvm.MethodName)) ∈ lw_all := lw_g (lw_at lw_m5 130 rfl) rfl
theorem q1174 : (Jvm.Cond.lays "java/lang/StringIndexOutOfBoundsException" "java/lang/Throwable" "backtrace" "Ljava/lang/Object;") ∈ lw_all := lw_g (lw_at lw_m5 131 rfl) rfl
theorem q1175 : (Jvm.Cond.lays "java/lang/StringIndexOutOfBoundsException" "java/lang/Throwable" "detailMessage" "Ljava/lang/String;") ∈ lw_all := lw_g (lw_at lw_m5 132 rfl) rfl
theorem q1176 : (Jvm.Cond.lays "java/lang/StringIndexOutOfBoundsException" "java/lang/Throwable" "cause" "Ljava/lang/Throwable;") ∈ lw_all := lw_g (lw_at lw_m5 133 rfl) rfl
theorem q1177 : (Jvm.Cond.lays "java/lang/StringIndexOutOfBoundsException" "java/lang/Throwable" "stackTrace" "[Ljava/lang/StackTraceElement;") ∈ lw_all := lw_g (lw_at lw_m5 134 rfl) rfl
theorem q1178 : (Jvm.Cond.lays "java/lang/StringIndexOutOfBoundsException" "java/lang/Throwable" "depth" "I") ∈ lw_all := lw_g (lw_at lw_m5 135 rfl) rfl
theorem q1179 : (Jvm.Cond.lays "java/lang/StringIndexOutOfBoundsException" "java/lang/Throwable" "suppressedExceptions" "Ljava/util/List;") ∈ lw_all := lw_g (lw_at lw_m5 136 rfl) rfl
theorem q1180 : (Jvm.Cond.superclass "java/lang/StringIndexOutOfBoundsException" "java/lang/IndexOutOfBoundsException") ∈ lw_all := lw_g (lw_at lw_m5 137 rfl) rfl
theorem q2039 : (Jvm.Cond.selects "java/lang/StringIndexOutOfBoundsException" ({ cls := "java/lang/Throwable", name := "toString", desc := "()Ljava/lang/String;" } : Jvm.MethodName) ({ cls := "java/lang/Throwable", name := "toString", desc := "()Ljava/lang/String;" } : Jvm.MethodName)) ∈ lw_all := lw_g (lw_at lw_m9 36 rfl) rfl
theorem q2058 : (Jvm.Cond.selects "java/lang/StringIndexOutOfBoundsException" ({ cls := "java/lang/Throwable", name := "getLocalizedMessage", desc := "()Ljava/lang/String;" } : Jvm.MethodName) ({ cls := "java/lang/Throwable", name := "getLocalizedMessage", desc := "()Ljava/lang/String;" } : Jvm.MethodName)) ∈ lw_all := lw_g (lw_at lw_m9 55 rfl) rfl
theorem q2082 : (Jvm.Cond.selects "java/lang/StringIndexOutOfBoundsException" ({ cls := "java/lang/Throwable", name := "getMessage", desc := "()Ljava/lang/String;" } : Jvm.MethodName) ({ cls := "java/lang/Throwable", name := "getMessage", desc := "()Ljava/lang/String;" } : Jvm.MethodName)) ∈ lw_all := lw_g (lw_at lw_m9 79 rfl) rfl
theorem q2769 : (Jvm.Cond.castable "java/lang/StringIndexOutOfBoundsException" "java/lang/IndexOutOfBoundsException") ∈ lw_tbl := lw_at lw_m12 46 rfl
theorem q2780 : (Jvm.Cond.castable "java/lang/StringIndexOutOfBoundsException" "java/lang/RuntimeException") ∈ lw_tbl := lw_at lw_m12 57 rfl
theorem q2805 : (Jvm.Cond.castable "java/lang/StringIndexOutOfBoundsException" "java/lang/Object") ∈ lw_tbl := lw_at lw_m12 82 rfl
theorem in_J24 : ∀ w ∈ wsJ240, w ∈ lw_all := lw_in wsJ240 [1174, 1175, 1176, 1177, 1178, 1179] (by decide +kernel) (by decide +kernel)
/-! jdk/internal/util/ArraysSupport -/
set_option maxRecDepth 100000
def RJ25 : String := "jdk/internal/util/ArraysSupport"
abbrev cJ25_newLength : ByteArray := prog_75_method_27_code
def yJ25_newLength : MethodName := ⟨RJ25, "newLength", "(III)I"⟩
def dkwJ25_newLength_1 : List UInt8 := [184, 0, 201, 172]
abbrev dktJ25_newLength_1 : List UInt8 := dkwJ25_newLength_1 ++ []
def dkwJ25_newLength_0 : List UInt8 := [26, 27, 28, 184, 0, 194, 96, 62, 3, 29, 162, 0, 11, 29, 18, 200, 163, 0, 5, 29, 172, 26, 27]
abbrev dktJ25_newLength_0 : List UInt8 := dkwJ25_newLength_0 ++ dktJ25_newLength_1
theorem dksJ25_newLength_0 : cJ25_newLength.data.toList.drop 0 = dktJ25_newLength_0 := by decide +kernel
theorem dksJ25_newLength_1 : cJ25_newLength.data.toList.drop 23 = dktJ25_newLength_1 := dk_seg dksJ25_newLength_0 23 rfl rfl
theorem dJ25_newLength_0 : decode cJ25_newLength 0 = .ok (.iload_n 0, 1) := dk_26 (dk_at dksJ25_newLength_0 0 rfl rfl)
theorem dJ25_newLength_1 : decode cJ25_newLength 1 = .ok (.iload_n 1, 1) := dk_27 (dk_at dksJ25_newLength_0 1 rfl rfl)
theorem dJ25_newLength_2 : decode cJ25_newLength 2 = .ok (.iload_n 2, 1) := dk_28 (dk_at dksJ25_newLength_0 2 rfl rfl)
theorem dJ25_newLength_3 : decode cJ25_newLength 3 = .ok (.invokestatic 194, 3) := dk_184 0 194 (dk_at dksJ25_newLength_0 3 rfl rfl)
theorem dJ25_newLength_6 : decode cJ25_newLength 6 = .ok (.iadd, 1) := dk_96 (dk_at dksJ25_newLength_0 6 rfl rfl)
theorem dJ25_newLength_7 : decode cJ25_newLength 7 = .ok (.istore_n 3, 1) := dk_62 (dk_at dksJ25_newLength_0 7 rfl rfl)
theorem dJ25_newLength_8 : decode cJ25_newLength 8 = .ok (.iconst 0, 1) := dk_3 (dk_at dksJ25_newLength_0 8 rfl rfl)
theorem dJ25_newLength_9 : decode cJ25_newLength 9 = .ok (.iload_n 3, 1) := dk_29 (dk_at dksJ25_newLength_0 9 rfl rfl)
theorem dJ25_newLength_10 : decode cJ25_newLength 10 = .ok (.if_icmp .ge 11, 3) := dk_162 0 11 (dk_at dksJ25_newLength_0 10 rfl rfl)
theorem dJ25_newLength_13 : decode cJ25_newLength 13 = .ok (.iload_n 3, 1) := dk_29 (dk_at dksJ25_newLength_0 13 rfl rfl)
theorem dJ25_newLength_14 : decode cJ25_newLength 14 = .ok (.ldc 200, 2) := dk_18 200 (dk_at dksJ25_newLength_0 14 rfl rfl)
theorem dJ25_newLength_16 : decode cJ25_newLength 16 = .ok (.if_icmp .gt 5, 3) := dk_163 0 5 (dk_at dksJ25_newLength_0 16 rfl rfl)
theorem dJ25_newLength_19 : decode cJ25_newLength 19 = .ok (.iload_n 3, 1) := dk_29 (dk_at dksJ25_newLength_0 19 rfl rfl)
theorem dJ25_newLength_20 : decode cJ25_newLength 20 = .ok (.ireturn, 1) := dk_172 (dk_at dksJ25_newLength_0 20 rfl rfl)
theorem dJ25_newLength_21 : decode cJ25_newLength 21 = .ok (.iload_n 0, 1) := dk_26 (dk_at dksJ25_newLength_0 21 rfl rfl)
theorem dJ25_newLength_22 : decode cJ25_newLength 22 = .ok (.iload_n 1, 1) := dk_27 (dk_at dksJ25_newLength_0 22 rfl rfl)
theorem dJ25_newLength_23 : decode cJ25_newLength 23 = .ok (.invokestatic 201, 3) := dk_184 0 201 (dk_at dksJ25_newLength_1 0 rfl rfl)
theorem dJ25_newLength_26 : decode cJ25_newLength 26 = .ok (.ireturn, 1) := dk_172 (dk_at dksJ25_newLength_1 3 rfl rfl)
abbrev cJ25_hugeLength : ByteArray := prog_75_method_28_code
def yJ25_hugeLength : MethodName := ⟨RJ25, "hugeLength", "(II)I"⟩
def dkwJ25_hugeLength_2 : List UInt8 := [191, 28, 18, 200, 163, 0, 6, 18, 200, 172, 28, 172]
abbrev dktJ25_hugeLength_2 : List UInt8 := dkwJ25_hugeLength_2 ++ []
def dkwJ25_hugeLength_1 : List UInt8 := [26, 182, 0, 98, 18, 208, 182, 0, 94, 27, 182, 0, 98, 18, 210, 182, 0, 94, 182, 0, 101, 183, 0, 212]
abbrev dktJ25_hugeLength_1 : List UInt8 := dkwJ25_hugeLength_1 ++ dktJ25_hugeLength_2
def dkwJ25_hugeLength_0 : List UInt8 := [26, 27, 96, 61, 28, 156, 0, 44, 187, 0, 204, 89, 187, 0, 89, 89, 183, 0, 91, 18, 206, 182, 0, 94]
abbrev dktJ25_hugeLength_0 : List UInt8 := dkwJ25_hugeLength_0 ++ dktJ25_hugeLength_1
theorem dksJ25_hugeLength_0 : cJ25_hugeLength.data.toList.drop 0 = dktJ25_hugeLength_0 := by decide +kernel
theorem dksJ25_hugeLength_1 : cJ25_hugeLength.data.toList.drop 24 = dktJ25_hugeLength_1 := dk_seg dksJ25_hugeLength_0 24 rfl rfl
theorem dksJ25_hugeLength_2 : cJ25_hugeLength.data.toList.drop 48 = dktJ25_hugeLength_2 := dk_seg dksJ25_hugeLength_1 24 rfl rfl
theorem dJ25_hugeLength_0 : decode cJ25_hugeLength 0 = .ok (.iload_n 0, 1) := dk_26 (dk_at dksJ25_hugeLength_0 0 rfl rfl)
theorem dJ25_hugeLength_1 : decode cJ25_hugeLength 1 = .ok (.iload_n 1, 1) := dk_27 (dk_at dksJ25_hugeLength_0 1 rfl rfl)
theorem dJ25_hugeLength_2 : decode cJ25_hugeLength 2 = .ok (.iadd, 1) := dk_96 (dk_at dksJ25_hugeLength_0 2 rfl rfl)
theorem dJ25_hugeLength_3 : decode cJ25_hugeLength 3 = .ok (.istore_n 2, 1) := dk_61 (dk_at dksJ25_hugeLength_0 3 rfl rfl)
theorem dJ25_hugeLength_4 : decode cJ25_hugeLength 4 = .ok (.iload_n 2, 1) := dk_28 (dk_at dksJ25_hugeLength_0 4 rfl rfl)
theorem dJ25_hugeLength_5 : decode cJ25_hugeLength 5 = .ok (.ifCond .ge 44, 3) := dk_156 0 44 (dk_at dksJ25_hugeLength_0 5 rfl rfl)
theorem dJ25_hugeLength_8 : decode cJ25_hugeLength 8 = .ok (.new 204, 3) := dk_187 0 204 (dk_at dksJ25_hugeLength_0 8 rfl rfl)
theorem dJ25_hugeLength_11 : decode cJ25_hugeLength 11 = .ok (.dup, 1) := dk_89 (dk_at dksJ25_hugeLength_0 11 rfl rfl)
theorem dJ25_hugeLength_12 : decode cJ25_hugeLength 12 = .ok (.new 89, 3) := dk_187 0 89 (dk_at dksJ25_hugeLength_0 12 rfl rfl)
theorem dJ25_hugeLength_15 : decode cJ25_hugeLength 15 = .ok (.dup, 1) := dk_89 (dk_at dksJ25_hugeLength_0 15 rfl rfl)
theorem dJ25_hugeLength_16 : decode cJ25_hugeLength 16 = .ok (.invokespecial 91, 3) := dk_183 0 91 (dk_at dksJ25_hugeLength_0 16 rfl rfl)
theorem dJ25_hugeLength_19 : decode cJ25_hugeLength 19 = .ok (.ldc 206, 2) := dk_18 206 (dk_at dksJ25_hugeLength_0 19 rfl rfl)
theorem dJ25_hugeLength_21 : decode cJ25_hugeLength 21 = .ok (.invokevirtual 94, 3) := dk_182 0 94 (dk_at dksJ25_hugeLength_0 21 rfl rfl)
theorem dJ25_hugeLength_24 : decode cJ25_hugeLength 24 = .ok (.iload_n 0, 1) := dk_26 (dk_at dksJ25_hugeLength_1 0 rfl rfl)
theorem dJ25_hugeLength_25 : decode cJ25_hugeLength 25 = .ok (.invokevirtual 98, 3) := dk_182 0 98 (dk_at dksJ25_hugeLength_1 1 rfl rfl)
theorem dJ25_hugeLength_28 : decode cJ25_hugeLength 28 = .ok (.ldc 208, 2) := dk_18 208 (dk_at dksJ25_hugeLength_1 4 rfl rfl)
theorem dJ25_hugeLength_30 : decode cJ25_hugeLength 30 = .ok (.invokevirtual 94, 3) := dk_182 0 94 (dk_at dksJ25_hugeLength_1 6 rfl rfl)
theorem dJ25_hugeLength_33 : decode cJ25_hugeLength 33 = .ok (.iload_n 1, 1) := dk_27 (dk_at dksJ25_hugeLength_1 9 rfl rfl)
theorem dJ25_hugeLength_34 : decode cJ25_hugeLength 34 = .ok (.invokevirtual 98, 3) := dk_182 0 98 (dk_at dksJ25_hugeLength_1 10 rfl rfl)
theorem dJ25_hugeLength_37 : decode cJ25_hugeLength 37 = .ok (.ldc 210, 2) := dk_18 210 (dk_at dksJ25_hugeLength_1 13 rfl rfl)
theorem dJ25_hugeLength_39 : decode cJ25_hugeLength 39 = .ok (.invokevirtual 94, 3) := dk_182 0 94 (dk_at dksJ25_hugeLength_1 15 rfl rfl)
theorem dJ25_hugeLength_42 : decode cJ25_hugeLength 42 = .ok (.invokevirtual 101, 3) := dk_182 0 101 (dk_at dksJ25_hugeLength_1 18 rfl rfl)
theorem dJ25_hugeLength_45 : decode cJ25_hugeLength 45 = .ok (.invokespecial 212, 3) := dk_183 0 212 (dk_at dksJ25_hugeLength_1 21 rfl rfl)
theorem dJ25_hugeLength_48 : decode cJ25_hugeLength 48 = .ok (.athrow, 1) := dk_191 (dk_at dksJ25_hugeLength_2 0 rfl rfl)
theorem dJ25_hugeLength_49 : decode cJ25_hugeLength 49 = .ok (.iload_n 2, 1) := dk_28 (dk_at dksJ25_hugeLength_2 1 rfl rfl)
theorem dJ25_hugeLength_50 : decode cJ25_hugeLength 50 = .ok (.ldc 200, 2) := dk_18 200 (dk_at dksJ25_hugeLength_2 2 rfl rfl)
theorem dJ25_hugeLength_52 : decode cJ25_hugeLength 52 = .ok (.if_icmp .gt 6, 3) := dk_163 0 6 (dk_at dksJ25_hugeLength_2 4 rfl rfl)
theorem dJ25_hugeLength_55 : decode cJ25_hugeLength 55 = .ok (.ldc 200, 2) := dk_18 200 (dk_at dksJ25_hugeLength_2 7 rfl rfl)
theorem dJ25_hugeLength_57 : decode cJ25_hugeLength 57 = .ok (.ireturn, 1) := dk_172 (dk_at dksJ25_hugeLength_2 9 rfl rfl)
theorem dJ25_hugeLength_58 : decode cJ25_hugeLength 58 = .ok (.iload_n 2, 1) := dk_28 (dk_at dksJ25_hugeLength_2 10 rfl rfl)
theorem dJ25_hugeLength_59 : decode cJ25_hugeLength 59 = .ok (.ireturn, 1) := dk_172 (dk_at dksJ25_hugeLength_2 11 rfl rfl)
abbrev cJ25_vectorizedHashCode : ByteArray := prog_75_method_4_code
def yJ25_vectorizedHashCode : MethodName := ⟨RJ25, "vectorizedHashCode", "(Ljava/lang/Object;IIII)I"⟩
def dkwJ25_vectorizedHashCode_6 : List UInt8 := [183, 0, 91, 18, 92, 182, 0, 94, 21, 4, 182, 0, 98, 182, 0, 101, 183, 0, 105, 191, 172]
abbrev dktJ25_vectorizedHashCode_6 : List UInt8 := dkwJ25_vectorizedHashCode_6 ++ []
def dkwJ25_vectorizedHashCode_5 : List UInt8 := [167, 0, 44, 29, 42, 192, 0, 82, 27, 28, 184, 0, 84, 167, 0, 31, 187, 0, 87, 89, 187, 0, 89, 89]
abbrev dktJ25_vectorizedHashCode_5 : List UInt8 := dkwJ25_vectorizedHashCode_5 ++ dktJ25_vectorizedHashCode_6
def dkwJ25_vectorizedHashCode_4 : List UInt8 := [29, 42, 192, 0, 60, 27, 28, 184, 0, 75, 167, 0, 57, 29, 42, 192, 0, 77, 27, 28, 184, 0, 79]
abbrev dktJ25_vectorizedHashCode_4 : List UInt8 := dkwJ25_vectorizedHashCode_4 ++ dktJ25_vectorizedHashCode_5
def dkwJ25_vectorizedHashCode_3 : List UInt8 := [192, 0, 60, 27, 28, 184, 0, 66, 167, 0, 83, 29, 42, 192, 0, 69, 27, 28, 184, 0, 71, 167, 0, 70]
abbrev dktJ25_vectorizedHashCode_3 : List UInt8 := dkwJ25_vectorizedHashCode_3 ++ dktJ25_vectorizedHashCode_4
def dkwJ25_vectorizedHashCode_2 : List UInt8 := [29, 42, 192, 0, 60, 27, 28, 184, 0, 62, 167, 0, 103, 42, 193, 0, 60, 153, 0, 16, 29, 42]
abbrev dktJ25_vectorizedHashCode_2 : List UInt8 := dkwJ25_vectorizedHashCode_2 ++ dktJ25_vectorizedHashCode_3
def dkwJ25_vectorizedHashCode_1 : List UInt8 := [170, 0, 0, 0, 0, 127, 0, 0, 0, 4, 0, 0, 0, 10, 0, 0, 0, 42, 0, 0, 0, 55, 0, 0, 0, 127, 0, 0, 0, 127, 0, 0, 0, 88, 0, 0, 0, 101, 0, 0, 0, 114]
abbrev dktJ25_vectorizedHashCode_1 : List UInt8 := dkwJ25_vectorizedHashCode_1 ++ dktJ25_vectorizedHashCode_2
def dkwJ25_vectorizedHashCode_0 : List UInt8 := [21, 4]
abbrev dktJ25_vectorizedHashCode_0 : List UInt8 := dkwJ25_vectorizedHashCode_0 ++ dktJ25_vectorizedHashCode_1
theorem dksJ25_vectorizedHashCode_0 : cJ25_vectorizedHashCode.data.toList.drop 0 = dktJ25_vectorizedHashCode_0 := by decide +kernel
theorem dksJ25_vectorizedHashCode_1 : cJ25_vectorizedHashCode.data.toList.drop 2 = dktJ25_vectorizedHashCode_1 := dk_seg dksJ25_vectorizedHashCode_0 2 rfl rfl
theorem dksJ25_vectorizedHashCode_2 : cJ25_vectorizedHashCode.data.toList.drop 44 = dktJ25_vectorizedHashCode_2 := dk_seg dksJ25_vectorizedHashCode_1 42 rfl rfl
theorem dksJ25_vectorizedHashCode_3 : cJ25_vectorizedHashCode.data.toList.drop 66 = dktJ25_vectorizedHashCode_3 := dk_seg dksJ25_vectorizedHashCode_2 22 rfl rfl
theorem dksJ25_vectorizedHashCode_4 : cJ25_vectorizedHashCode.data.toList.drop 90 = dktJ25_vectorizedHashCode_4 := dk_seg dksJ25_vectorizedHashCode_3 24 rfl rfl
theorem dksJ25_vectorizedHashCode_5 : cJ25_vectorizedHashCode.data.toList.drop 113 = dktJ25_vectorizedHashCode_5 := dk_seg dksJ25_vectorizedHashCode_4 23 rfl rfl
theorem dksJ25_vectorizedHashCode_6 : cJ25_vectorizedHashCode.data.toList.drop 137 = dktJ25_vectorizedHashCode_6 := dk_seg dksJ25_vectorizedHashCode_5 24 rfl rfl
theorem dJ25_vectorizedHashCode_0 : decode cJ25_vectorizedHashCode 0 = .ok (.iload 4, 2) := dk_21 4 (dk_at dksJ25_vectorizedHashCode_0 0 rfl rfl)
theorem dJ25_vectorizedHashCode_2 : decode cJ25_vectorizedHashCode 2 = .ok (.tableswitch 127 4 10 #[42, 55, 127, 127, 88, 101, 114], 42) := by decide +kernel
theorem dJ25_vectorizedHashCode_44 : decode cJ25_vectorizedHashCode 44 = .ok (.iload_n 3, 1) := dk_29 (dk_at dksJ25_vectorizedHashCode_2 0 rfl rfl)
theorem dJ25_vectorizedHashCode_45 : decode cJ25_vectorizedHashCode 45 = .ok (.aload_n 0, 1) := dk_42 (dk_at dksJ25_vectorizedHashCode_2 1 rfl rfl)
theorem dJ25_vectorizedHashCode_46 : decode cJ25_vectorizedHashCode 46 = .ok (.checkcast 60, 3) := dk_192 0 60 (dk_at dksJ25_vectorizedHashCode_2 2 rfl rfl)
theorem dJ25_vectorizedHashCode_49 : decode cJ25_vectorizedHashCode 49 = .ok (.iload_n 1, 1) := dk_27 (dk_at dksJ25_vectorizedHashCode_2 5 rfl rfl)
theorem dJ25_vectorizedHashCode_50 : decode cJ25_vectorizedHashCode 50 = .ok (.iload_n 2, 1) := dk_28 (dk_at dksJ25_vectorizedHashCode_2 6 rfl rfl)
theorem dJ25_vectorizedHashCode_51 : decode cJ25_vectorizedHashCode 51 = .ok (.invokestatic 62, 3) := dk_184 0 62 (dk_at dksJ25_vectorizedHashCode_2 7 rfl rfl)
theorem dJ25_vectorizedHashCode_54 : decode cJ25_vectorizedHashCode 54 = .ok (.goto 103, 3) := dk_167 0 103 (dk_at dksJ25_vectorizedHashCode_2 10 rfl rfl)
theorem dJ25_vectorizedHashCode_57 : decode cJ25_vectorizedHashCode 57 = .ok (.aload_n 0, 1) := dk_42 (dk_at dksJ25_vectorizedHashCode_2 13 rfl rfl)
theorem dJ25_vectorizedHashCode_58 : decode cJ25_vectorizedHashCode 58 = .ok (.instanceof 60, 3) := dk_193 0 60 (dk_at dksJ25_vectorizedHashCode_2 14 rfl rfl)
theorem dJ25_vectorizedHashCode_61 : decode cJ25_vectorizedHashCode 61 = .ok (.ifCond .eq 16, 3) := dk_153 0 16 (dk_at dksJ25_vectorizedHashCode_2 17 rfl rfl)
theorem dJ25_vectorizedHashCode_64 : decode cJ25_vectorizedHashCode 64 = .ok (.iload_n 3, 1) := dk_29 (dk_at dksJ25_vectorizedHashCode_2 20 rfl rfl)
theorem dJ25_vectorizedHashCode_65 : decode cJ25_vectorizedHashCode 65 = .ok (.aload_n 0, 1) := dk_42 (dk_at dksJ25_vectorizedHashCode_2 21 rfl rfl)
theorem dJ25_vectorizedHashCode_66 : decode cJ25_vectorizedHashCode 66 = .ok (.checkcast 60, 3) := dk_192 0 60 (dk_at dksJ25_vectorizedHashCode_3 0 rfl rfl)
theorem dJ25_vectorizedHashCode_69 : decode cJ25_vectorizedHashCode 69 = .ok (.iload_n 1, 1) := dk_27 (dk_at dksJ25_vectorizedHashCode_3 3 rfl rfl)
theorem dJ25_vectorizedHashCode_70 : decode cJ25_vectorizedHashCode 70 = .ok (.iload_n 2, 1) := dk_28 (dk_at dksJ25_vectorizedHashCode_3 4 rfl rfl)
theorem dJ25_vectorizedHashCode_71 : decode cJ25_vectorizedHashCode 71 = .ok (.invokestatic 66, 3) := dk_184 0 66 (dk_at dksJ25_vectorizedHashCode_3 5 rfl rfl)
theorem dJ25_vectorizedHashCode_74 : decode cJ25_vectorizedHashCode 74 = .ok (.goto 83, 3) := dk_167 0 83 (dk_at dksJ25_vectorizedHashCode_3 8 rfl rfl)
theorem dJ25_vectorizedHashCode_77 : decode cJ25_vectorizedHashCode 77 = .ok (.iload_n 3, 1) := dk_29 (dk_at dksJ25_vectorizedHashCode_3 11 rfl rfl)
theorem dJ25_vectorizedHashCode_78 : decode cJ25_vectorizedHashCode 78 = .ok (.aload_n 0, 1) := dk_42 (dk_at dksJ25_vectorizedHashCode_3 12 rfl rfl)
theorem dJ25_vectorizedHashCode_79 : decode cJ25_vectorizedHashCode 79 = .ok (.checkcast 69, 3) := dk_192 0 69 (dk_at dksJ25_vectorizedHashCode_3 13 rfl rfl)
theorem dJ25_vectorizedHashCode_82 : decode cJ25_vectorizedHashCode 82 = .ok (.iload_n 1, 1) := dk_27 (dk_at dksJ25_vectorizedHashCode_3 16 rfl rfl)
theorem dJ25_vectorizedHashCode_83 : decode cJ25_vectorizedHashCode 83 = .ok (.iload_n 2, 1) := dk_28 (dk_at dksJ25_vectorizedHashCode_3 17 rfl rfl)
theorem dJ25_vectorizedHashCode_84 : decode cJ25_vectorizedHashCode 84 = .ok (.invokestatic 71, 3) := dk_184 0 71 (dk_at dksJ25_vectorizedHashCode_3 18 rfl rfl)
theorem dJ25_vectorizedHashCode_87 : decode cJ25_vectorizedHashCode 87 = .ok (.goto 70, 3) := dk_167 0 70 (dk_at dksJ25_vectorizedHashCode_3 21 rfl rfl)
theorem dJ25_vectorizedHashCode_90 : decode cJ25_vectorizedHashCode 90 = .ok (.iload_n 3, 1) := dk_29 (dk_at dksJ25_vectorizedHashCode_4 0 rfl rfl)
theorem dJ25_vectorizedHashCode_91 : decode cJ25_vectorizedHashCode 91 = .ok (.aload_n 0, 1) := dk_42 (dk_at dksJ25_vectorizedHashCode_4 1 rfl rfl)
theorem dJ25_vectorizedHashCode_92 : decode cJ25_vectorizedHashCode 92 = .ok (.checkcast 60, 3) := dk_192 0 60 (dk_at dksJ25_vectorizedHashCode_4 2 rfl rfl)
theorem dJ25_vectorizedHashCode_95 : decode cJ25_vectorizedHashCode 95 = .ok (.iload_n 1, 1) := dk_27 (dk_at dksJ25_vectorizedHashCode_4 5 rfl rfl)
theorem dJ25_vectorizedHashCode_96 : decode cJ25_vectorizedHashCode 96 = .ok (.iload_n 2, 1) := dk_28 (dk_at dksJ25_vectorizedHashCode_4 6 rfl rfl)
theorem dJ25_vectorizedHashCode_97 : decode cJ25_vectorizedHashCode 97 = .ok (.invokestatic 75, 3) := dk_184 0 75 (dk_at dksJ25_vectorizedHashCode_4 7 rfl rfl)
theorem dJ25_vectorizedHashCode_100 : decode cJ25_vectorizedHashCode 100 = .ok (.goto 57, 3) := dk_167 0 57 (dk_at dksJ25_vectorizedHashCode_4 10 rfl rfl)
theorem dJ25_vectorizedHashCode_103 : decode cJ25_vectorizedHashCode 103 = .ok (.iload_n 3, 1) := dk_29 (dk_at dksJ25_vectorizedHashCode_4 13 rfl rfl)
theorem dJ25_vectorizedHashCode_104 : decode cJ25_vectorizedHashCode 104 = .ok (.aload_n 0, 1) := dk_42 (dk_at dksJ25_vectorizedHashCode_4 14 rfl rfl)
theorem dJ25_vectorizedHashCode_105 : decode cJ25_vectorizedHashCode 105 = .ok (.checkcast 77, 3) := dk_192 0 77 (dk_at dksJ25_vectorizedHashCode_4 15 rfl rfl)
theorem dJ25_vectorizedHashCode_108 : decode cJ25_vectorizedHashCode 108 = .ok (.iload_n 1, 1) := dk_27 (dk_at dksJ25_vectorizedHashCode_4 18 rfl rfl)
theorem dJ25_vectorizedHashCode_109 : decode cJ25_vectorizedHashCode 109 = .ok (.iload_n 2, 1) := dk_28 (dk_at dksJ25_vectorizedHashCode_4 19 rfl rfl)
theorem dJ25_vectorizedHashCode_110 : decode cJ25_vectorizedHashCode 110 = .ok (.invokestatic 79, 3) := dk_184 0 79 (dk_at dksJ25_vectorizedHashCode_4 20 rfl rfl)
theorem dJ25_vectorizedHashCode_113 : decode cJ25_vectorizedHashCode 113 = .ok (.goto 44, 3) := dk_167 0 44 (dk_at dksJ25_vectorizedHashCode_5 0 rfl rfl)
theorem dJ25_vectorizedHashCode_116 : decode cJ25_vectorizedHashCode 116 = .ok (.iload_n 3, 1) := dk_29 (dk_at dksJ25_vectorizedHashCode_5 3 rfl rfl)
theorem dJ25_vectorizedHashCode_117 : decode cJ25_vectorizedHashCode 117 = .ok (.aload_n 0, 1) := dk_42 (dk_at dksJ25_vectorizedHashCode_5 4 rfl rfl)
theorem dJ25_vectorizedHashCode_118 : decode cJ25_vectorizedHashCode 118 = .ok (.checkcast 82, 3) := dk_192 0 82 (dk_at dksJ25_vectorizedHashCode_5 5 rfl rfl)
theorem dJ25_vectorizedHashCode_121 : decode cJ25_vectorizedHashCode 121 = .ok (.iload_n 1, 1) := dk_27 (dk_at dksJ25_vectorizedHashCode_5 8 rfl rfl)
theorem dJ25_vectorizedHashCode_122 : decode cJ25_vectorizedHashCode 122 = .ok (.iload_n 2, 1) := dk_28 (dk_at dksJ25_vectorizedHashCode_5 9 rfl rfl)
theorem dJ25_vectorizedHashCode_123 : decode cJ25_vectorizedHashCode 123 = .ok (.invokestatic 84, 3) := dk_184 0 84 (dk_at dksJ25_vectorizedHashCode_5 10 rfl rfl)
theorem dJ25_vectorizedHashCode_126 : decode cJ25_vectorizedHashCode 126 = .ok (.goto 31, 3) := dk_167 0 31 (dk_at dksJ25_vectorizedHashCode_5 13 rfl rfl)
theorem dJ25_vectorizedHashCode_129 : decode cJ25_vectorizedHashCode 129 = .ok (.new 87, 3) := dk_187 0 87 (dk_at dksJ25_vectorizedHashCode_5 16 rfl rfl)
theorem dJ25_vectorizedHashCode_132 : decode cJ25_vectorizedHashCode 132 = .ok (.dup, 1) := dk_89 (dk_at dksJ25_vectorizedHashCode_5 19 rfl rfl)
theorem dJ25_vectorizedHashCode_133 : decode cJ25_vectorizedHashCode 133 = .ok (.new 89, 3) := dk_187 0 89 (dk_at dksJ25_vectorizedHashCode_5 20 rfl rfl)
theorem dJ25_vectorizedHashCode_136 : decode cJ25_vectorizedHashCode 136 = .ok (.dup, 1) := dk_89 (dk_at dksJ25_vectorizedHashCode_5 23 rfl rfl)
theorem dJ25_vectorizedHashCode_137 : decode cJ25_vectorizedHashCode 137 = .ok (.invokespecial 91, 3) := dk_183 0 91 (dk_at dksJ25_vectorizedHashCode_6 0 rfl rfl)
theorem dJ25_vectorizedHashCode_140 : decode cJ25_vectorizedHashCode 140 = .ok (.ldc 92, 2) := dk_18 92 (dk_at dksJ25_vectorizedHashCode_6 3 rfl rfl)
theorem dJ25_vectorizedHashCode_142 : decode cJ25_vectorizedHashCode 142 = .ok (.invokevirtual 94, 3) := dk_182 0 94 (dk_at dksJ25_vectorizedHashCode_6 5 rfl rfl)
theorem dJ25_vectorizedHashCode_145 : decode cJ25_vectorizedHashCode 145 = .ok (.iload 4, 2) := dk_21 4 (dk_at dksJ25_vectorizedHashCode_6 8 rfl rfl)
theorem dJ25_vectorizedHashCode_147 : decode cJ25_vectorizedHashCode 147 = .ok (.invokevirtual 98, 3) := dk_182 0 98 (dk_at dksJ25_vectorizedHashCode_6 10 rfl rfl)
theorem dJ25_vectorizedHashCode_150 : decode cJ25_vectorizedHashCode 150 = .ok (.invokevirtual 101, 3) := dk_182 0 101 (dk_at dksJ25_vectorizedHashCode_6 13 rfl rfl)
theorem dJ25_vectorizedHashCode_153 : decode cJ25_vectorizedHashCode 153 = .ok (.invokespecial 105, 3) := dk_183 0 105 (dk_at dksJ25_vectorizedHashCode_6 16 rfl rfl)
theorem dJ25_vectorizedHashCode_156 : decode cJ25_vectorizedHashCode 156 = .ok (.athrow, 1) := dk_191 (dk_at dksJ25_vectorizedHashCode_6 19 rfl rfl)
theorem dJ25_vectorizedHashCode_157 : decode cJ25_vectorizedHashCode 157 = .ok (.ireturn, 1) := dk_172 (dk_at dksJ25_vectorizedHashCode_6 20 rfl rfl)
abbrev cJ25_signedHashCode : ByteArray := prog_75_method_5_code
def yJ25_signedHashCode : MethodName := ⟨RJ25, "signedHashCode", "(I[BII)I"⟩
def dkwJ25_signedHashCode_1 : List UInt8 := [17, 0, 255, 126, 96, 59, 132, 5, 1, 167, 255, 232, 26, 172]
abbrev dktJ25_signedHashCode_1 : List UInt8 := dkwJ25_signedHashCode_1 ++ []
def dkwJ25_signedHashCode_0 : List UInt8 := [28, 29, 96, 54, 4, 28, 54, 5, 21, 5, 21, 4, 162, 0, 23, 16, 31, 26, 104, 43, 21, 5, 51]
abbrev dktJ25_signedHashCode_0 : List UInt8 := dkwJ25_signedHashCode_0 ++ dktJ25_signedHashCode_1
theorem dksJ25_signedHashCode_0 : cJ25_signedHashCode.data.toList.drop 0 = dktJ25_signedHashCode_0 := by decide +kernel
theorem dksJ25_signedHashCode_1 : cJ25_signedHashCode.data.toList.drop 23 = dktJ25_signedHashCode_1 := dk_seg dksJ25_signedHashCode_0 23 rfl rfl
theorem dJ25_signedHashCode_0 : decode cJ25_signedHashCode 0 = .ok (.iload_n 2, 1) := dk_28 (dk_at dksJ25_signedHashCode_0 0 rfl rfl)
theorem dJ25_signedHashCode_1 : decode cJ25_signedHashCode 1 = .ok (.iload_n 3, 1) := dk_29 (dk_at dksJ25_signedHashCode_0 1 rfl rfl)
theorem dJ25_signedHashCode_2 : decode cJ25_signedHashCode 2 = .ok (.iadd, 1) := dk_96 (dk_at dksJ25_signedHashCode_0 2 rfl rfl)
theorem dJ25_signedHashCode_3 : decode cJ25_signedHashCode 3 = .ok (.istore 4, 2) := dk_54 4 (dk_at dksJ25_signedHashCode_0 3 rfl rfl)
theorem dJ25_signedHashCode_5 : decode cJ25_signedHashCode 5 = .ok (.iload_n 2, 1) := dk_28 (dk_at dksJ25_signedHashCode_0 5 rfl rfl)
theorem dJ25_signedHashCode_6 : decode cJ25_signedHashCode 6 = .ok (.istore 5, 2) := dk_54 5 (dk_at dksJ25_signedHashCode_0 6 rfl rfl)
theorem dJ25_signedHashCode_8 : decode cJ25_signedHashCode 8 = .ok (.iload 5, 2) := dk_21 5 (dk_at dksJ25_signedHashCode_0 8 rfl rfl)
theorem dJ25_signedHashCode_10 : decode cJ25_signedHashCode 10 = .ok (.iload 4, 2) := dk_21 4 (dk_at dksJ25_signedHashCode_0 10 rfl rfl)
theorem dJ25_signedHashCode_12 : decode cJ25_signedHashCode 12 = .ok (.if_icmp .ge 23, 3) := dk_162 0 23 (dk_at dksJ25_signedHashCode_0 12 rfl rfl)
theorem dJ25_signedHashCode_15 : decode cJ25_signedHashCode 15 = .ok (.bipush 31, 2) := dk_16 31 (dk_at dksJ25_signedHashCode_0 15 rfl rfl)
theorem dJ25_signedHashCode_17 : decode cJ25_signedHashCode 17 = .ok (.iload_n 0, 1) := dk_26 (dk_at dksJ25_signedHashCode_0 17 rfl rfl)
theorem dJ25_signedHashCode_18 : decode cJ25_signedHashCode 18 = .ok (.imul, 1) := dk_104 (dk_at dksJ25_signedHashCode_0 18 rfl rfl)
theorem dJ25_signedHashCode_19 : decode cJ25_signedHashCode 19 = .ok (.aload_n 1, 1) := dk_43 (dk_at dksJ25_signedHashCode_0 19 rfl rfl)
theorem dJ25_signedHashCode_20 : decode cJ25_signedHashCode 20 = .ok (.iload 5, 2) := dk_21 5 (dk_at dksJ25_signedHashCode_0 20 rfl rfl)
theorem dJ25_signedHashCode_22 : decode cJ25_signedHashCode 22 = .ok (.baload, 1) := dk_51 (dk_at dksJ25_signedHashCode_0 22 rfl rfl)
theorem dJ25_signedHashCode_23 : decode cJ25_signedHashCode 23 = .ok (.sipush 255, 3) := dk_17 0 255 (dk_at dksJ25_signedHashCode_1 0 rfl rfl)
theorem dJ25_signedHashCode_26 : decode cJ25_signedHashCode 26 = .ok (.iand, 1) := dk_126 (dk_at dksJ25_signedHashCode_1 3 rfl rfl)
theorem dJ25_signedHashCode_27 : decode cJ25_signedHashCode 27 = .ok (.iadd, 1) := dk_96 (dk_at dksJ25_signedHashCode_1 4 rfl rfl)
theorem dJ25_signedHashCode_28 : decode cJ25_signedHashCode 28 = .ok (.istore_n 0, 1) := dk_59 (dk_at dksJ25_signedHashCode_1 5 rfl rfl)
theorem dJ25_signedHashCode_29 : decode cJ25_signedHashCode 29 = .ok (.iinc 5 1, 3) := dk_132 5 1 (dk_at dksJ25_signedHashCode_1 6 rfl rfl)
theorem dJ25_signedHashCode_32 : decode cJ25_signedHashCode 32 = .ok (.goto (-24), 3) := dk_167 255 232 (dk_at dksJ25_signedHashCode_1 9 rfl rfl)
theorem dJ25_signedHashCode_35 : decode cJ25_signedHashCode 35 = .ok (.iload_n 0, 1) := dk_26 (dk_at dksJ25_signedHashCode_1 12 rfl rfl)
theorem dJ25_signedHashCode_36 : decode cJ25_signedHashCode 36 = .ok (.ireturn, 1) := dk_172 (dk_at dksJ25_signedHashCode_1 13 rfl rfl)
abbrev cJ25_utf16hashCode : ByteArray := prog_75_method_10_code
def yJ25_utf16hashCode : MethodName := ⟨RJ25, "utf16hashCode", "(I[BII)I"⟩
def dkwJ25_utf16hashCode_1 : List UInt8 := [21, 5, 185, 0, 110, 3, 0, 96, 59, 132, 5, 1, 167, 255, 229, 26, 172]
abbrev dktJ25_utf16hashCode_1 : List UInt8 := dkwJ25_utf16hashCode_1 ++ []
def dkwJ25_utf16hashCode_0 : List UInt8 := [28, 29, 96, 54, 4, 28, 54, 5, 21, 5, 21, 4, 162, 0, 26, 16, 31, 26, 104, 178, 0, 106, 43]
abbrev dktJ25_utf16hashCode_0 : List UInt8 := dkwJ25_utf16hashCode_0 ++ dktJ25_utf16hashCode_1
theorem dksJ25_utf16hashCode_0 : cJ25_utf16hashCode.data.toList.drop 0 = dktJ25_utf16hashCode_0 := by decide +kernel
theorem dksJ25_utf16hashCode_1 : cJ25_utf16hashCode.data.toList.drop 23 = dktJ25_utf16hashCode_1 := dk_seg dksJ25_utf16hashCode_0 23 rfl rfl
theorem dJ25_utf16hashCode_0 : decode cJ25_utf16hashCode 0 = .ok (.iload_n 2, 1) := dk_28 (dk_at dksJ25_utf16hashCode_0 0 rfl rfl)
theorem dJ25_utf16hashCode_1 : decode cJ25_utf16hashCode 1 = .ok (.iload_n 3, 1) := dk_29 (dk_at dksJ25_utf16hashCode_0 1 rfl rfl)
theorem dJ25_utf16hashCode_2 : decode cJ25_utf16hashCode 2 = .ok (.iadd, 1) := dk_96 (dk_at dksJ25_utf16hashCode_0 2 rfl rfl)
theorem dJ25_utf16hashCode_3 : decode cJ25_utf16hashCode 3 = .ok (.istore 4, 2) := dk_54 4 (dk_at dksJ25_utf16hashCode_0 3 rfl rfl)
theorem dJ25_utf16hashCode_5 : decode cJ25_utf16hashCode 5 = .ok (.iload_n 2, 1) := dk_28 (dk_at dksJ25_utf16hashCode_0 5 rfl rfl)
theorem dJ25_utf16hashCode_6 : decode cJ25_utf16hashCode 6 = .ok (.istore 5, 2) := dk_54 5 (dk_at dksJ25_utf16hashCode_0 6 rfl rfl)
theorem dJ25_utf16hashCode_8 : decode cJ25_utf16hashCode 8 = .ok (.iload 5, 2) := dk_21 5 (dk_at dksJ25_utf16hashCode_0 8 rfl rfl)
theorem dJ25_utf16hashCode_10 : decode cJ25_utf16hashCode 10 = .ok (.iload 4, 2) := dk_21 4 (dk_at dksJ25_utf16hashCode_0 10 rfl rfl)
theorem dJ25_utf16hashCode_12 : decode cJ25_utf16hashCode 12 = .ok (.if_icmp .ge 26, 3) := dk_162 0 26 (dk_at dksJ25_utf16hashCode_0 12 rfl rfl)
theorem dJ25_utf16hashCode_15 : decode cJ25_utf16hashCode 15 = .ok (.bipush 31, 2) := dk_16 31 (dk_at dksJ25_utf16hashCode_0 15 rfl rfl)
theorem dJ25_utf16hashCode_17 : decode cJ25_utf16hashCode 17 = .ok (.iload_n 0, 1) := dk_26 (dk_at dksJ25_utf16hashCode_0 17 rfl rfl)
theorem dJ25_utf16hashCode_18 : decode cJ25_utf16hashCode 18 = .ok (.imul, 1) := dk_104 (dk_at dksJ25_utf16hashCode_0 18 rfl rfl)
theorem dJ25_utf16hashCode_19 : decode cJ25_utf16hashCode 19 = .ok (.getstatic 106, 3) := dk_178 0 106 (dk_at dksJ25_utf16hashCode_0 19 rfl rfl)
theorem dJ25_utf16hashCode_22 : decode cJ25_utf16hashCode 22 = .ok (.aload_n 1, 1) := dk_43 (dk_at dksJ25_utf16hashCode_0 22 rfl rfl)
theorem dJ25_utf16hashCode_23 : decode cJ25_utf16hashCode 23 = .ok (.iload 5, 2) := dk_21 5 (dk_at dksJ25_utf16hashCode_1 0 rfl rfl)
theorem dJ25_utf16hashCode_25 : decode cJ25_utf16hashCode 25 = .ok (.invokeinterface 110 3, 5) := by decide +kernel
theorem dJ25_utf16hashCode_30 : decode cJ25_utf16hashCode 30 = .ok (.iadd, 1) := dk_96 (dk_at dksJ25_utf16hashCode_1 7 rfl rfl)
theorem dJ25_utf16hashCode_31 : decode cJ25_utf16hashCode 31 = .ok (.istore_n 0, 1) := dk_59 (dk_at dksJ25_utf16hashCode_1 8 rfl rfl)
theorem dJ25_utf16hashCode_32 : decode cJ25_utf16hashCode 32 = .ok (.iinc 5 1, 3) := dk_132 5 1 (dk_at dksJ25_utf16hashCode_1 9 rfl rfl)
theorem dJ25_utf16hashCode_35 : decode cJ25_utf16hashCode 35 = .ok (.goto (-27), 3) := dk_167 255 229 (dk_at dksJ25_utf16hashCode_1 12 rfl rfl)
theorem dJ25_utf16hashCode_38 : decode cJ25_utf16hashCode 38 = .ok (.iload_n 0, 1) := dk_26 (dk_at dksJ25_utf16hashCode_1 15 rfl rfl)
theorem dJ25_utf16hashCode_39 : decode cJ25_utf16hashCode 39 = .ok (.ireturn, 1) := dk_172 (dk_at dksJ25_utf16hashCode_1 16 rfl rfl)
abbrev cJ25_hashCode : ByteArray := prog_75_method_7_code
def yJ25_hashCode : MethodName := ⟨RJ25, "hashCode", "(I[CII)I"⟩
def dkwJ25_hashCode_1 : List UInt8 := [59, 132, 5, 1, 167, 255, 236, 26, 172]
abbrev dktJ25_hashCode_1 : List UInt8 := dkwJ25_hashCode_1 ++ []
def dkwJ25_hashCode_0 : List UInt8 := [28, 29, 96, 54, 4, 28, 54, 5, 21, 5, 21, 4, 162, 0, 19, 16, 31, 26, 104, 43, 21, 5, 52, 96]
abbrev dktJ25_hashCode_0 : List UInt8 := dkwJ25_hashCode_0 ++ dktJ25_hashCode_1
theorem dksJ25_hashCode_0 : cJ25_hashCode.data.toList.drop 0 = dktJ25_hashCode_0 := by decide +kernel
theorem dksJ25_hashCode_1 : cJ25_hashCode.data.toList.drop 24 = dktJ25_hashCode_1 := dk_seg dksJ25_hashCode_0 24 rfl rfl
theorem dJ25_hashCode_0 : decode cJ25_hashCode 0 = .ok (.iload_n 2, 1) := dk_28 (dk_at dksJ25_hashCode_0 0 rfl rfl)
theorem dJ25_hashCode_1 : decode cJ25_hashCode 1 = .ok (.iload_n 3, 1) := dk_29 (dk_at dksJ25_hashCode_0 1 rfl rfl)
theorem dJ25_hashCode_2 : decode cJ25_hashCode 2 = .ok (.iadd, 1) := dk_96 (dk_at dksJ25_hashCode_0 2 rfl rfl)
theorem dJ25_hashCode_3 : decode cJ25_hashCode 3 = .ok (.istore 4, 2) := dk_54 4 (dk_at dksJ25_hashCode_0 3 rfl rfl)
theorem dJ25_hashCode_5 : decode cJ25_hashCode 5 = .ok (.iload_n 2, 1) := dk_28 (dk_at dksJ25_hashCode_0 5 rfl rfl)
theorem dJ25_hashCode_6 : decode cJ25_hashCode 6 = .ok (.istore 5, 2) := dk_54 5 (dk_at dksJ25_hashCode_0 6 rfl rfl)
theorem dJ25_hashCode_8 : decode cJ25_hashCode 8 = .ok (.iload 5, 2) := dk_21 5 (dk_at dksJ25_hashCode_0 8 rfl rfl)
theorem dJ25_hashCode_10 : decode cJ25_hashCode 10 = .ok (.iload 4, 2) := dk_21 4 (dk_at dksJ25_hashCode_0 10 rfl rfl)
theorem dJ25_hashCode_12 : decode cJ25_hashCode 12 = .ok (.if_icmp .ge 19, 3) := dk_162 0 19 (dk_at dksJ25_hashCode_0 12 rfl rfl)
theorem dJ25_hashCode_15 : decode cJ25_hashCode 15 = .ok (.bipush 31, 2) := dk_16 31 (dk_at dksJ25_hashCode_0 15 rfl rfl)
theorem dJ25_hashCode_17 : decode cJ25_hashCode 17 = .ok (.iload_n 0, 1) := dk_26 (dk_at dksJ25_hashCode_0 17 rfl rfl)
theorem dJ25_hashCode_18 : decode cJ25_hashCode 18 = .ok (.imul, 1) := dk_104 (dk_at dksJ25_hashCode_0 18 rfl rfl)
theorem dJ25_hashCode_19 : decode cJ25_hashCode 19 = .ok (.aload_n 1, 1) := dk_43 (dk_at dksJ25_hashCode_0 19 rfl rfl)
theorem dJ25_hashCode_20 : decode cJ25_hashCode 20 = .ok (.iload 5, 2) := dk_21 5 (dk_at dksJ25_hashCode_0 20 rfl rfl)
theorem dJ25_hashCode_22 : decode cJ25_hashCode 22 = .ok (.caload, 1) := dk_52 (dk_at dksJ25_hashCode_0 22 rfl rfl)
theorem dJ25_hashCode_23 : decode cJ25_hashCode 23 = .ok (.iadd, 1) := dk_96 (dk_at dksJ25_hashCode_0 23 rfl rfl)
theorem dJ25_hashCode_24 : decode cJ25_hashCode 24 = .ok (.istore_n 0, 1) := dk_59 (dk_at dksJ25_hashCode_1 0 rfl rfl)
theorem dJ25_hashCode_25 : decode cJ25_hashCode 25 = .ok (.iinc 5 1, 3) := dk_132 5 1 (dk_at dksJ25_hashCode_1 1 rfl rfl)
theorem dJ25_hashCode_28 : decode cJ25_hashCode 28 = .ok (.goto (-20), 3) := dk_167 255 236 (dk_at dksJ25_hashCode_1 4 rfl rfl)
theorem dJ25_hashCode_31 : decode cJ25_hashCode 31 = .ok (.iload_n 0, 1) := dk_26 (dk_at dksJ25_hashCode_1 7 rfl rfl)
theorem dJ25_hashCode_32 : decode cJ25_hashCode 32 = .ok (.ireturn, 1) := dk_172 (dk_at dksJ25_hashCode_1 8 rfl rfl)
abbrev cJ25_hashCode_2 : ByteArray := prog_75_method_6_code
def yJ25_hashCode_2 : MethodName := ⟨RJ25, "hashCode", "(I[BII)I"⟩
def dkwJ25_hashCode_2_1 : List UInt8 := [59, 132, 5, 1, 167, 255, 236, 26, 172]
abbrev dktJ25_hashCode_2_1 : List UInt8 := dkwJ25_hashCode_2_1 ++ []
def dkwJ25_hashCode_2_0 : List UInt8 := [28, 29, 96, 54, 4, 28, 54, 5, 21, 5, 21, 4, 162, 0, 19, 16, 31, 26, 104, 43, 21, 5, 51, 96]
abbrev dktJ25_hashCode_2_0 : List UInt8 := dkwJ25_hashCode_2_0 ++ dktJ25_hashCode_2_1
theorem dksJ25_hashCode_2_0 : cJ25_hashCode_2.data.toList.drop 0 = dktJ25_hashCode_2_0 := by decide +kernel
theorem dksJ25_hashCode_2_1 : cJ25_hashCode_2.data.toList.drop 24 = dktJ25_hashCode_2_1 := dk_seg dksJ25_hashCode_2_0 24 rfl rfl
theorem dJ25_hashCode_2_0 : decode cJ25_hashCode_2 0 = .ok (.iload_n 2, 1) := dk_28 (dk_at dksJ25_hashCode_2_0 0 rfl rfl)
theorem dJ25_hashCode_2_1 : decode cJ25_hashCode_2 1 = .ok (.iload_n 3, 1) := dk_29 (dk_at dksJ25_hashCode_2_0 1 rfl rfl)
theorem dJ25_hashCode_2_2 : decode cJ25_hashCode_2 2 = .ok (.iadd, 1) := dk_96 (dk_at dksJ25_hashCode_2_0 2 rfl rfl)
theorem dJ25_hashCode_2_3 : decode cJ25_hashCode_2 3 = .ok (.istore 4, 2) := dk_54 4 (dk_at dksJ25_hashCode_2_0 3 rfl rfl)
theorem dJ25_hashCode_2_5 : decode cJ25_hashCode_2 5 = .ok (.iload_n 2, 1) := dk_28 (dk_at dksJ25_hashCode_2_0 5 rfl rfl)
theorem dJ25_hashCode_2_6 : decode cJ25_hashCode_2 6 = .ok (.istore 5, 2) := dk_54 5 (dk_at dksJ25_hashCode_2_0 6 rfl rfl)
theorem dJ25_hashCode_2_8 : decode cJ25_hashCode_2 8 = .ok (.iload 5, 2) := dk_21 5 (dk_at dksJ25_hashCode_2_0 8 rfl rfl)
theorem dJ25_hashCode_2_10 : decode cJ25_hashCode_2 10 = .ok (.iload 4, 2) := dk_21 4 (dk_at dksJ25_hashCode_2_0 10 rfl rfl)
theorem dJ25_hashCode_2_12 : decode cJ25_hashCode_2 12 = .ok (.if_icmp .ge 19, 3) := dk_162 0 19 (dk_at dksJ25_hashCode_2_0 12 rfl rfl)
theorem dJ25_hashCode_2_15 : decode cJ25_hashCode_2 15 = .ok (.bipush 31, 2) := dk_16 31 (dk_at dksJ25_hashCode_2_0 15 rfl rfl)
theorem dJ25_hashCode_2_17 : decode cJ25_hashCode_2 17 = .ok (.iload_n 0, 1) := dk_26 (dk_at dksJ25_hashCode_2_0 17 rfl rfl)
theorem dJ25_hashCode_2_18 : decode cJ25_hashCode_2 18 = .ok (.imul, 1) := dk_104 (dk_at dksJ25_hashCode_2_0 18 rfl rfl)
theorem dJ25_hashCode_2_19 : decode cJ25_hashCode_2 19 = .ok (.aload_n 1, 1) := dk_43 (dk_at dksJ25_hashCode_2_0 19 rfl rfl)
theorem dJ25_hashCode_2_20 : decode cJ25_hashCode_2 20 = .ok (.iload 5, 2) := dk_21 5 (dk_at dksJ25_hashCode_2_0 20 rfl rfl)
theorem dJ25_hashCode_2_22 : decode cJ25_hashCode_2 22 = .ok (.baload, 1) := dk_51 (dk_at dksJ25_hashCode_2_0 22 rfl rfl)
theorem dJ25_hashCode_2_23 : decode cJ25_hashCode_2 23 = .ok (.iadd, 1) := dk_96 (dk_at dksJ25_hashCode_2_0 23 rfl rfl)
theorem dJ25_hashCode_2_24 : decode cJ25_hashCode_2 24 = .ok (.istore_n 0, 1) := dk_59 (dk_at dksJ25_hashCode_2_1 0 rfl rfl)
theorem dJ25_hashCode_2_25 : decode cJ25_hashCode_2 25 = .ok (.iinc 5 1, 3) := dk_132 5 1 (dk_at dksJ25_hashCode_2_1 1 rfl rfl)
theorem dJ25_hashCode_2_28 : decode cJ25_hashCode_2 28 = .ok (.goto (-20), 3) := dk_167 255 236 (dk_at dksJ25_hashCode_2_1 4 rfl rfl)
theorem dJ25_hashCode_2_31 : decode cJ25_hashCode_2 31 = .ok (.iload_n 0, 1) := dk_26 (dk_at dksJ25_hashCode_2_1 7 rfl rfl)
theorem dJ25_hashCode_2_32 : decode cJ25_hashCode_2 32 = .ok (.ireturn, 1) := dk_172 (dk_at dksJ25_hashCode_2_1 8 rfl rfl)
abbrev cJ25_hashCode_3 : ByteArray := prog_75_method_8_code
def yJ25_hashCode_3 : MethodName := ⟨RJ25, "hashCode", "(I[SII)I"⟩
def dkwJ25_hashCode_3_1 : List UInt8 := [59, 132, 5, 1, 167, 255, 236, 26, 172]
abbrev dktJ25_hashCode_3_1 : List UInt8 := dkwJ25_hashCode_3_1 ++ []
def dkwJ25_hashCode_3_0 : List UInt8 := [28, 29, 96, 54, 4, 28, 54, 5, 21, 5, 21, 4, 162, 0, 19, 16, 31, 26, 104, 43, 21, 5, 53, 96]
abbrev dktJ25_hashCode_3_0 : List UInt8 := dkwJ25_hashCode_3_0 ++ dktJ25_hashCode_3_1
theorem dksJ25_hashCode_3_0 : cJ25_hashCode_3.data.toList.drop 0 = dktJ25_hashCode_3_0 := by decide +kernel
theorem dksJ25_hashCode_3_1 : cJ25_hashCode_3.data.toList.drop 24 = dktJ25_hashCode_3_1 := dk_seg dksJ25_hashCode_3_0 24 rfl rfl
theorem dJ25_hashCode_3_0 : decode cJ25_hashCode_3 0 = .ok (.iload_n 2, 1) := dk_28 (dk_at dksJ25_hashCode_3_0 0 rfl rfl)
theorem dJ25_hashCode_3_1 : decode cJ25_hashCode_3 1 = .ok (.iload_n 3, 1) := dk_29 (dk_at dksJ25_hashCode_3_0 1 rfl rfl)
theorem dJ25_hashCode_3_2 : decode cJ25_hashCode_3 2 = .ok (.iadd, 1) := dk_96 (dk_at dksJ25_hashCode_3_0 2 rfl rfl)
theorem dJ25_hashCode_3_3 : decode cJ25_hashCode_3 3 = .ok (.istore 4, 2) := dk_54 4 (dk_at dksJ25_hashCode_3_0 3 rfl rfl)
theorem dJ25_hashCode_3_5 : decode cJ25_hashCode_3 5 = .ok (.iload_n 2, 1) := dk_28 (dk_at dksJ25_hashCode_3_0 5 rfl rfl)
theorem dJ25_hashCode_3_6 : decode cJ25_hashCode_3 6 = .ok (.istore 5, 2) := dk_54 5 (dk_at dksJ25_hashCode_3_0 6 rfl rfl)
theorem dJ25_hashCode_3_8 : decode cJ25_hashCode_3 8 = .ok (.iload 5, 2) := dk_21 5 (dk_at dksJ25_hashCode_3_0 8 rfl rfl)
theorem dJ25_hashCode_3_10 : decode cJ25_hashCode_3 10 = .ok (.iload 4, 2) := dk_21 4 (dk_at dksJ25_hashCode_3_0 10 rfl rfl)
theorem dJ25_hashCode_3_12 : decode cJ25_hashCode_3 12 = .ok (.if_icmp .ge 19, 3) := dk_162 0 19 (dk_at dksJ25_hashCode_3_0 12 rfl rfl)
theorem dJ25_hashCode_3_15 : decode cJ25_hashCode_3 15 = .ok (.bipush 31, 2) := dk_16 31 (dk_at dksJ25_hashCode_3_0 15 rfl rfl)
theorem dJ25_hashCode_3_17 : decode cJ25_hashCode_3 17 = .ok (.iload_n 0, 1) := dk_26 (dk_at dksJ25_hashCode_3_0 17 rfl rfl)
theorem dJ25_hashCode_3_18 : decode cJ25_hashCode_3 18 = .ok (.imul, 1) := dk_104 (dk_at dksJ25_hashCode_3_0 18 rfl rfl)
theorem dJ25_hashCode_3_19 : decode cJ25_hashCode_3 19 = .ok (.aload_n 1, 1) := dk_43 (dk_at dksJ25_hashCode_3_0 19 rfl rfl)
theorem dJ25_hashCode_3_20 : decode cJ25_hashCode_3 20 = .ok (.iload 5, 2) := dk_21 5 (dk_at dksJ25_hashCode_3_0 20 rfl rfl)
theorem dJ25_hashCode_3_22 : decode cJ25_hashCode_3 22 = .ok (.saload, 1) := dk_53 (dk_at dksJ25_hashCode_3_0 22 rfl rfl)
theorem dJ25_hashCode_3_23 : decode cJ25_hashCode_3 23 = .ok (.iadd, 1) := dk_96 (dk_at dksJ25_hashCode_3_0 23 rfl rfl)
theorem dJ25_hashCode_3_24 : decode cJ25_hashCode_3 24 = .ok (.istore_n 0, 1) := dk_59 (dk_at dksJ25_hashCode_3_1 0 rfl rfl)
theorem dJ25_hashCode_3_25 : decode cJ25_hashCode_3 25 = .ok (.iinc 5 1, 3) := dk_132 5 1 (dk_at dksJ25_hashCode_3_1 1 rfl rfl)
theorem dJ25_hashCode_3_28 : decode cJ25_hashCode_3 28 = .ok (.goto (-20), 3) := dk_167 255 236 (dk_at dksJ25_hashCode_3_1 4 rfl rfl)
theorem dJ25_hashCode_3_31 : decode cJ25_hashCode_3 31 = .ok (.iload_n 0, 1) := dk_26 (dk_at dksJ25_hashCode_3_1 7 rfl rfl)
theorem dJ25_hashCode_3_32 : decode cJ25_hashCode_3 32 = .ok (.ireturn, 1) := dk_172 (dk_at dksJ25_hashCode_3_1 8 rfl rfl)
abbrev cJ25_hashCode_4 : ByteArray := prog_75_method_9_code
def yJ25_hashCode_4 : MethodName := ⟨RJ25, "hashCode", "(I[III)I"⟩
def dkwJ25_hashCode_4_1 : List UInt8 := [59, 132, 5, 1, 167, 255, 236, 26, 172]
abbrev dktJ25_hashCode_4_1 : List UInt8 := dkwJ25_hashCode_4_1 ++ []
def dkwJ25_hashCode_4_0 : List UInt8 := [28, 29, 96, 54, 4, 28, 54, 5, 21, 5, 21, 4, 162, 0, 19, 16, 31, 26, 104, 43, 21, 5, 46, 96]
abbrev dktJ25_hashCode_4_0 : List UInt8 := dkwJ25_hashCode_4_0 ++ dktJ25_hashCode_4_1
theorem dksJ25_hashCode_4_0 : cJ25_hashCode_4.data.toList.drop 0 = dktJ25_hashCode_4_0 := by decide +kernel
theorem dksJ25_hashCode_4_1 : cJ25_hashCode_4.data.toList.drop 24 = dktJ25_hashCode_4_1 := dk_seg dksJ25_hashCode_4_0 24 rfl rfl
theorem dJ25_hashCode_4_0 : decode cJ25_hashCode_4 0 = .ok (.iload_n 2, 1) := dk_28 (dk_at dksJ25_hashCode_4_0 0 rfl rfl)
theorem dJ25_hashCode_4_1 : decode cJ25_hashCode_4 1 = .ok (.iload_n 3, 1) := dk_29 (dk_at dksJ25_hashCode_4_0 1 rfl rfl)
theorem dJ25_hashCode_4_2 : decode cJ25_hashCode_4 2 = .ok (.iadd, 1) := dk_96 (dk_at dksJ25_hashCode_4_0 2 rfl rfl)
theorem dJ25_hashCode_4_3 : decode cJ25_hashCode_4 3 = .ok (.istore 4, 2) := dk_54 4 (dk_at dksJ25_hashCode_4_0 3 rfl rfl)
theorem dJ25_hashCode_4_5 : decode cJ25_hashCode_4 5 = .ok (.iload_n 2, 1) := dk_28 (dk_at dksJ25_hashCode_4_0 5 rfl rfl)
theorem dJ25_hashCode_4_6 : decode cJ25_hashCode_4 6 = .ok (.istore 5, 2) := dk_54 5 (dk_at dksJ25_hashCode_4_0 6 rfl rfl)
theorem dJ25_hashCode_4_8 : decode cJ25_hashCode_4 8 = .ok (.iload 5, 2) := dk_21 5 (dk_at dksJ25_hashCode_4_0 8 rfl rfl)
theorem dJ25_hashCode_4_10 : decode cJ25_hashCode_4 10 = .ok (.iload 4, 2) := dk_21 4 (dk_at dksJ25_hashCode_4_0 10 rfl rfl)
theorem dJ25_hashCode_4_12 : decode cJ25_hashCode_4 12 = .ok (.if_icmp .ge 19, 3) := dk_162 0 19 (dk_at dksJ25_hashCode_4_0 12 rfl rfl)
theorem dJ25_hashCode_4_15 : decode cJ25_hashCode_4 15 = .ok (.bipush 31, 2) := dk_16 31 (dk_at dksJ25_hashCode_4_0 15 rfl rfl)
theorem dJ25_hashCode_4_17 : decode cJ25_hashCode_4 17 = .ok (.iload_n 0, 1) := dk_26 (dk_at dksJ25_hashCode_4_0 17 rfl rfl)
theorem dJ25_hashCode_4_18 : decode cJ25_hashCode_4 18 = .ok (.imul, 1) := dk_104 (dk_at dksJ25_hashCode_4_0 18 rfl rfl)
theorem dJ25_hashCode_4_19 : decode cJ25_hashCode_4 19 = .ok (.aload_n 1, 1) := dk_43 (dk_at dksJ25_hashCode_4_0 19 rfl rfl)
theorem dJ25_hashCode_4_20 : decode cJ25_hashCode_4 20 = .ok (.iload 5, 2) := dk_21 5 (dk_at dksJ25_hashCode_4_0 20 rfl rfl)
theorem dJ25_hashCode_4_22 : decode cJ25_hashCode_4 22 = .ok (.iaload, 1) := dk_46 (dk_at dksJ25_hashCode_4_0 22 rfl rfl)
theorem dJ25_hashCode_4_23 : decode cJ25_hashCode_4 23 = .ok (.iadd, 1) := dk_96 (dk_at dksJ25_hashCode_4_0 23 rfl rfl)
theorem dJ25_hashCode_4_24 : decode cJ25_hashCode_4 24 = .ok (.istore_n 0, 1) := dk_59 (dk_at dksJ25_hashCode_4_1 0 rfl rfl)
theorem dJ25_hashCode_4_25 : decode cJ25_hashCode_4 25 = .ok (.iinc 5 1, 3) := dk_132 5 1 (dk_at dksJ25_hashCode_4_1 1 rfl rfl)
theorem dJ25_hashCode_4_28 : decode cJ25_hashCode_4 28 = .ok (.goto (-20), 3) := dk_167 255 236 (dk_at dksJ25_hashCode_4_1 4 rfl rfl)
theorem dJ25_hashCode_4_31 : decode cJ25_hashCode_4 31 = .ok (.iload_n 0, 1) := dk_26 (dk_at dksJ25_hashCode_4_1 7 rfl rfl)
theorem dJ25_hashCode_4_32 : decode cJ25_hashCode_4 32 = .ok (.ireturn, 1) := dk_172 (dk_at dksJ25_hashCode_4_1 8 rfl rfl)
theorem q119 : (Jvm.Cond.initialized "jdk/internal/util/ArraysSupport") ∈ lw_all := lw_g (lw_at lw_m1 36 rfl) rfl
theorem q869 : (Jvm.Cond.static ({ cls := "jdk/internal/util/ArraysSupport", name := "newLength", desc := "(III)I" } : Jvm.MethodName)) ∈ lw_all := lw_g (lw_at lw_m4 66 rfl) rfl
theorem q870 : (Jvm.Cond.code ({ cls := "jdk/internal/util/ArraysSupport", name := "newLength", desc := "(III)I" } : Jvm.MethodName) prog_75_method_27_code (4 : Nat) (Option.some Jvm.ClassFile.FieldType.int)) ∈ lw_all := lw_g (lw_at lw_m4 67 rfl) rfl
theorem q871 : (Jvm.Cond.methodLink "jdk/internal/util/ArraysSupport" (194 : Nat) ({ cls := "java/lang/Math", name := "max", desc := "(II)I" } : Jvm.MethodName)) ∈ lw_all := lw_g (lw_at lw_m4 68 rfl) rfl
theorem q872 : (Jvm.Cond.constant "jdk/internal/util/ArraysSupport" (200 : Nat) (2147483639 : Int32)) ∈ lw_all := lw_g (lw_at lw_m4 69 rfl) rfl
theorem q873 : (Jvm.Cond.methodLink "jdk/internal/util/ArraysSupport" (201 : Nat) ({ cls := "jdk/internal/util/ArraysSupport", name := "hugeLength", desc := "(II)I" } : Jvm.MethodName)) ∈ lw_all := lw_g (lw_at lw_m4 70 rfl) rfl
theorem q874 : (Jvm.Cond.static ({ cls := "jdk/internal/util/ArraysSupport", name := "hugeLength", desc := "(II)I" } : Jvm.MethodName)) ∈ lw_all := lw_g (lw_at lw_m4 71 rfl) rfl
theorem q875 : (Jvm.Cond.code ({ cls := "jdk/internal/util/ArraysSupport", name := "hugeLength", desc := "(II)I" } : Jvm.MethodName) prog_75_method_28_code (3 : Nat) (Option.some Jvm.ClassFile.FieldType.int)) ∈ lw_all := lw_g (lw_at lw_m4 72 rfl) rfl
theorem q2118 : (Jvm.Cond.static ({ cls := "jdk/internal/util/ArraysSupport", name := "vectorizedHashCode", desc := "(Ljava/lang/Object;IIII)I" } : Jvm.MethodName)) ∈ lw_all := lw_g (lw_at lw_m9 115 rfl) rfl
theorem q2119 : (Jvm.Cond.code ({ cls := "jdk/internal/util/ArraysSupport", name := "vectorizedHashCode", desc := "(Ljava/lang/Object;IIII)I" } : Jvm.MethodName) prog_75_method_4_code (5 : Nat) (Option.some Jvm.ClassFile.FieldType.int)) ∈ lw_all := lw_g (lw_at lw_m9 116 rfl) rfl
theorem q2120 : (Jvm.Cond.classLink "jdk/internal/util/ArraysSupport" (60 : Nat) "[B") ∈ lw_all := lw_g (lw_at lw_m9 117 rfl) rfl
theorem q2121 : (Jvm.Cond.methodLink "jdk/internal/util/ArraysSupport" (62 : Nat) ({ cls := "jdk/internal/util/ArraysSupport", name := "signedHashCode", desc := "(I[BII)I" } : Jvm.MethodName)) ∈ lw_all := lw_g (lw_at lw_m9 118 rfl) rfl
theorem q2122 : (Jvm.Cond.static ({ cls := "jdk/internal/util/ArraysSupport", name := "signedHashCode", desc := "(I[BII)I" } : Jvm.MethodName)) ∈ lw_all := lw_g (lw_at lw_m9 119 rfl) rfl
theorem q2123 : (Jvm.Cond.code ({ cls := "jdk/internal/util/ArraysSupport", name := "signedHashCode", desc := "(I[BII)I" } : Jvm.MethodName) prog_75_method_5_code (6 : Nat) (Option.some Jvm.ClassFile.FieldType.int)) ∈ lw_all := lw_g (lw_at lw_m9 120 rfl) rfl
theorem q2124 : (Jvm.Cond.methodLink "jdk/internal/util/ArraysSupport" (66 : Nat) ({ cls := "jdk/internal/util/ArraysSupport", name := "utf16hashCode", desc := "(I[BII)I" } : Jvm.MethodName)) ∈ lw_all := lw_g (lw_at lw_m9 121 rfl) rfl
theorem q2125 : (Jvm.Cond.static ({ cls := "jdk/internal/util/ArraysSupport", name := "utf16hashCode", desc := "(I[BII)I" } : Jvm.MethodName)) ∈ lw_all := lw_g (lw_at lw_m9 122 rfl) rfl
theorem q2126 : (Jvm.Cond.code ({ cls := "jdk/internal/util/ArraysSupport", name := "utf16hashCode", desc := "(I[BII)I" } : Jvm.MethodName) prog_75_method_10_code (6 : Nat) (Option.some Jvm.ClassFile.FieldType.int)) ∈ lw_all := lw_g (lw_at lw_m9 123 rfl) rfl
theorem q2127 : (Jvm.Cond.fieldLink "jdk/internal/util/ArraysSupport" (106 : Nat) "jdk/internal/util/ArraysSupport" "JLA" "Ljdk/internal/access/JavaLangAccess;") ∈ lw_all := lw_g (lw_at lw_m9 124 rfl) rfl
theorem q2128 : (Jvm.Cond.laysStatic "jdk/internal/util/ArraysSupport" "JLA" "Ljdk/internal/access/JavaLangAccess;") ∈ lw_tbl := lw_at lw_m9 125 rfl
theorem q2129 : (Jvm.Cond.interfaceEntry "jdk/internal/util/ArraysSupport" (110 : Nat)) ∈ lw_tbl := lw_at lw_m9 126 rfl
theorem q2130 : (Jvm.Cond.methodLink "jdk/internal/util/ArraysSupport" (110 : Nat) ({ cls := "jdk/internal/access/JavaLangAccess", name := "getUTF16Char", desc := "([BI)C" } : Jvm.MethodName)) ∈ lw_all := lw_g (lw_at lw_m9 127 rfl) rfl
theorem q2140 : (Jvm.Cond.classLink "jdk/internal/util/ArraysSupport" (69 : Nat) "[C") ∈ lw_all := lw_g (lw_at lw_m9 137 rfl) rfl
theorem q2141 : (Jvm.Cond.methodLink "jdk/internal/util/ArraysSupport" (71 : Nat) ({ cls := "jdk/internal/util/ArraysSupport", name := "hashCode", desc := "(I[CII)I" } : Jvm.MethodName)) ∈ lw_all := lw_g (lw_at lw_m9 138 rfl) rfl
theorem q2142 : (Jvm.Cond.static ({ cls := "jdk/internal/util/ArraysSupport", name := "hashCode", desc := "(I[CII)I" } : Jvm.MethodName)) ∈ lw_all := lw_g (lw_at lw_m9 139 rfl) rfl
theorem q2143 : (Jvm.Cond.code ({ cls := "jdk/internal/util/ArraysSupport", name := "hashCode", desc := "(I[CII)I" } : Jvm.MethodName) prog_75_method_7_code (6 : Nat) (Option.some Jvm.ClassFile.FieldType.int)) ∈ lw_all := lw_g (lw_at lw_m9 140 rfl) rfl
theorem q2144 : (Jvm.Cond.methodLink "jdk/internal/util/ArraysSupport" (75 : Nat) ({ cls := "jdk/internal/util/ArraysSupport", name := "hashCode", desc := "(I[BII)I" } : Jvm.MethodName)) ∈ lw_all := lw_g (lw_at lw_m9 141 rfl) rfl
theorem q2145 : (Jvm.Cond.static ({ cls := "jdk/internal/util/ArraysSupport", name := "hashCode", desc := "(I[BII)I" } : Jvm.MethodName)) ∈ lw_all := lw_g (lw_at lw_m9 142 rfl) rfl
theorem q2146 : (Jvm.Cond.code ({ cls := "jdk/internal/util/ArraysSupport", name := "hashCode", desc := "(I[BII)I" } : Jvm.MethodName) prog_75_method_6_code (6 : Nat) (Option.some Jvm.ClassFile.FieldType.int)) ∈ lw_all := lw_g (lw_at lw_m9 143 rfl) rfl
theorem q2147 : (Jvm.Cond.classLink "jdk/internal/util/ArraysSupport" (77 : Nat) "[S") ∈ lw_all := lw_g (lw_at lw_m9 144 rfl) rfl
theorem q2148 : (Jvm.Cond.methodLink "jdk/internal/util/ArraysSupport" (79 : Nat) ({ cls := "jdk/internal/util/ArraysSupport", name := "hashCode", desc := "(I[SII)I" } : Jvm.MethodName)) ∈ lw_all := lw_g (lw_at lw_m9 145 rfl) rfl
theorem q2149 : (Jvm.Cond.static ({ cls := "jdk/internal/util/ArraysSupport", name := "hashCode", desc := "(I[SII)I" } : Jvm.MethodName)) ∈ lw_all := lw_g (lw_at lw_m9 146 rfl) rfl
theorem q2150 : (Jvm.Cond.code ({ cls := "jdk/internal/util/ArraysSupport", name := "hashCode", desc := "(I[SII)I" } : Jvm.MethodName) prog_75_method_8_code (6 : Nat) (Option.some Jvm.ClassFile.FieldType.int)) ∈ lw_all := lw_g (lw_at lw_m9 147 rfl) rfl
theorem q2151 : (Jvm.Cond.classLink "jdk/internal/util/ArraysSupport" (82 : Nat) "[I") ∈ lw_all := lw_g (lw_at lw_m9 148 rfl) rfl
theorem q2152 : (Jvm.Cond.methodLink "jdk/internal/util/ArraysSupport" (84 : Nat) ({ cls := "jdk/internal/util/ArraysSupport", name := "hashCode", desc := "(I[III)I" } : Jvm.MethodName)) ∈ lw_all := lw_g (lw_at lw_m9 149 rfl) rfl
theorem q2153 : (Jvm.Cond.static ({ cls := "jdk/internal/util/ArraysSupport", name := "hashCode", desc := "(I[III)I" } : Jvm.MethodName)) ∈ lw_all := lw_g (lw_at lw_m9 150 rfl) rfl
theorem q2154 : (Jvm.Cond.code ({ cls := "jdk/internal/util/ArraysSupport", name := "hashCode", desc := "(I[III)I" } : Jvm.MethodName) prog_75_method_9_code (6 : Nat) (Option.some Jvm.ClassFile.FieldType.int)) ∈ lw_all := lw_g (lw_at lw_m9 151 rfl) rfl
theorem q2155 : (Jvm.Cond.classLink "jdk/internal/util/ArraysSupport" (87 : Nat) "java/lang/IllegalArgumentException") ∈ lw_all := lw_g (lw_at lw_m9 152 rfl) rfl
theorem q2156 : (Jvm.Cond.classLink "jdk/internal/util/ArraysSupport" (89 : Nat) "java/lang/StringBuilder") ∈ lw_all := lw_g (lw_at lw_m9 153 rfl) rfl
theorem q2157 : (Jvm.Cond.methodLink "jdk/internal/util/ArraysSupport" (91 : Nat) ({ cls := "java/lang/StringBuilder", name := "<init>", desc := "()V" } : Jvm.MethodName)) ∈ lw_all := lw_g (lw_at lw_m9 154 rfl) rfl
theorem q2158 : (Jvm.Cond.stringRef "jdk/internal/util/ArraysSupport" (92 : Nat) "unrecognized basic type: ") ∈ lw_tbl := lw_at lw_m9 155 rfl
theorem q2159 : (Jvm.Cond.methodLink "jdk/internal/util/ArraysSupport" (94 : Nat) ({ cls := "java/lang/StringBuilder", name := "append", desc := "(Ljava/lang/String;)Ljava/lang/StringBuilder;" } : Jvm.MethodName)) ∈ lw_all := lw_g (lw_at lw_m9 156 rfl) rfl
theorem q2160 : (Jvm.Cond.methodLink "jdk/internal/util/ArraysSupport" (98 : Nat) ({ cls := "java/lang/StringBuilder", name := "append", desc := "(I)Ljava/lang/StringBuilder;" } : Jvm.MethodName)) ∈ lw_all := lw_g (lw_at lw_m9 157 rfl) rfl
theorem q2161 : (Jvm.Cond.methodLink "jdk/internal/util/ArraysSupport" (101 : Nat) ({ cls := "java/lang/StringBuilder", name := "toString", desc := "()Ljava/lang/String;" } : Jvm.MethodName)) ∈ lw_all := lw_g (lw_at lw_m9 158 rfl) rfl
theorem q2162 : (Jvm.Cond.methodLink "jdk/internal/util/ArraysSupport" (105 : Nat) ({ cls := "java/lang/IllegalArgumentException", name := "<init>", desc := "(Ljava/lang/String;)V" } : Jvm.MethodName)) ∈ lw_all := lw_g (lw_at lw_m9 159 rfl) rfl
/-! jdk/internal/util/Preconditions -/
set_option maxRecDepth 100000
def RJ26 : String := "jdk/internal/util/Preconditions"
abbrev cJ26_checkFromToIndex : ByteArray := prog_76_method_12_code
def yJ26_checkFromToIndex : MethodName := ⟨RJ26, "checkFromToIndex", "(IIILjava/util/function/BiFunction;)I"⟩
def dkwJ26_checkFromToIndex_0 : List UInt8 := [26, 155, 0, 13, 26, 27, 163, 0, 8, 27, 28, 164, 0, 11, 45, 26, 27, 28, 184, 0, 99, 191, 26, 172]
abbrev dktJ26_checkFromToIndex_0 : List UInt8 := dkwJ26_checkFromToIndex_0 ++ []
theorem dksJ26_checkFromToIndex_0 : cJ26_checkFromToIndex.data.toList.drop 0 = dktJ26_checkFromToIndex_0 := by decide +kernel
theorem dJ26_checkFromToIndex_0 : decode cJ26_checkFromToIndex 0 = .ok (.iload_n 0, 1) := dk_26 (dk_at dksJ26_checkFromToIndex_0 0 rfl rfl)
theorem dJ26_checkFromToIndex_1 : decode cJ26_checkFromToIndex 1 = .ok (.ifCond .lt 13, 3) := dk_155 0 13 (dk_at dksJ26_checkFromToIndex_0 1 rfl rfl)
theorem dJ26_checkFromToIndex_4 : decode cJ26_checkFromToIndex 4 = .ok (.iload_n 0, 1) := dk_26 (dk_at dksJ26_checkFromToIndex_0 4 rfl rfl)
theorem dJ26_checkFromToIndex_5 : decode cJ26_checkFromToIndex 5 = .ok (.iload_n 1, 1) := dk_27 (dk_at dksJ26_checkFromToIndex_0 5 rfl rfl)
theorem dJ26_checkFromToIndex_6 : decode cJ26_checkFromToIndex 6 = .ok (.if_icmp .gt 8, 3) := dk_163 0 8 (dk_at dksJ26_checkFromToIndex_0 6 rfl rfl)
theorem dJ26_checkFromToIndex_9 : decode cJ26_checkFromToIndex 9 = .ok (.iload_n 1, 1) := dk_27 (dk_at dksJ26_checkFromToIndex_0 9 rfl rfl)
theorem dJ26_checkFromToIndex_10 : decode cJ26_checkFromToIndex 10 = .ok (.iload_n 2, 1) := dk_28 (dk_at dksJ26_checkFromToIndex_0 10 rfl rfl)
theorem dJ26_checkFromToIndex_11 : decode cJ26_checkFromToIndex 11 = .ok (.if_icmp .le 11, 3) := dk_164 0 11 (dk_at dksJ26_checkFromToIndex_0 11 rfl rfl)
theorem dJ26_checkFromToIndex_14 : decode cJ26_checkFromToIndex 14 = .ok (.aload_n 3, 1) := dk_45 (dk_at dksJ26_checkFromToIndex_0 14 rfl rfl)
theorem dJ26_checkFromToIndex_15 : decode cJ26_checkFromToIndex 15 = .ok (.iload_n 0, 1) := dk_26 (dk_at dksJ26_checkFromToIndex_0 15 rfl rfl)
theorem dJ26_checkFromToIndex_16 : decode cJ26_checkFromToIndex 16 = .ok (.iload_n 1, 1) := dk_27 (dk_at dksJ26_checkFromToIndex_0 16 rfl rfl)
theorem dJ26_checkFromToIndex_17 : decode cJ26_checkFromToIndex 17 = .ok (.iload_n 2, 1) := dk_28 (dk_at dksJ26_checkFromToIndex_0 17 rfl rfl)
theorem dJ26_checkFromToIndex_18 : decode cJ26_checkFromToIndex 18 = .ok (.invokestatic 99, 3) := dk_184 0 99 (dk_at dksJ26_checkFromToIndex_0 18 rfl rfl)
theorem dJ26_checkFromToIndex_21 : decode cJ26_checkFromToIndex 21 = .ok (.athrow, 1) := dk_191 (dk_at dksJ26_checkFromToIndex_0 21 rfl rfl)
theorem dJ26_checkFromToIndex_22 : decode cJ26_checkFromToIndex 22 = .ok (.iload_n 0, 1) := dk_26 (dk_at dksJ26_checkFromToIndex_0 22 rfl rfl)
theorem dJ26_checkFromToIndex_23 : decode cJ26_checkFromToIndex 23 = .ok (.ireturn, 1) := dk_172 (dk_at dksJ26_checkFromToIndex_0 23 rfl rfl)
abbrev cJ26_outOfBoundsCheckFromToIndex : ByteArray := prog_76_method_4_code
def yJ26_outOfBoundsCheckFromToIndex : MethodName := ⟨RJ26, "outOfBoundsCheckFromToIndex", "(Ljava/util/function/BiFunction;III)Ljava/lang/RuntimeException;"⟩
def dkwJ26_outOfBoundsCheckFromToIndex_1 : List UInt8 := [184, 0, 36, 83, 184, 0, 42, 176]
abbrev dktJ26_outOfBoundsCheckFromToIndex_1 : List UInt8 := dkwJ26_outOfBoundsCheckFromToIndex_1 ++ []
def dkwJ26_outOfBoundsCheckFromToIndex_0 : List UInt8 := [42, 18, 46, 6, 189, 0, 34, 89, 3, 27, 184, 0, 36, 83, 89, 4, 28, 184, 0, 36, 83, 89, 5, 29]
abbrev dktJ26_outOfBoundsCheckFromToIndex_0 : List UInt8 := dkwJ26_outOfBoundsCheckFromToIndex_0 ++ dktJ26_outOfBoundsCheckFromToIndex_1
theorem dksJ26_outOfBoundsCheckFromToIndex_0 : cJ26_outOfBoundsCheckFromToIndex.data.toList.drop 0 = dktJ26_outOfBoundsCheckFromToIndex_0 := by decide +kernel
theorem dksJ26_outOfBoundsCheckFromToIndex_1 : cJ26_outOfBoundsCheckFromToIndex.data.toList.drop 24 = dktJ26_outOfBoundsCheckFromToIndex_1 := dk_seg dksJ26_outOfBoundsCheckFromToIndex_0 24 rfl rfl
theorem dJ26_outOfBoundsCheckFromToIndex_0 : decode cJ26_outOfBoundsCheckFromToIndex 0 = .ok (.aload_n 0, 1) := dk_42 (dk_at dksJ26_outOfBoundsCheckFromToIndex_0 0 rfl rfl)
theorem dJ26_outOfBoundsCheckFromToIndex_1 : decode cJ26_outOfBoundsCheckFromToIndex 1 = .ok (.ldc 46, 2) := dk_18 46 (dk_at dksJ26_outOfBoundsCheckFromToIndex_0 1 rfl rfl)
theorem dJ26_outOfBoundsCheckFromToIndex_3 : decode cJ26_outOfBoundsCheckFromToIndex 3 = .ok (.iconst 3, 1) := dk_6 (dk_at dksJ26_outOfBoundsCheckFromToIndex_0 3 rfl rfl)
theorem dJ26_outOfBoundsCheckFromToIndex_4 : decode cJ26_outOfBoundsCheckFromToIndex 4 = .ok (.anewarray 34, 3) := dk_189 0 34 (dk_at dksJ26_outOfBoundsCheckFromToIndex_0 4 rfl rfl)
theorem dJ26_outOfBoundsCheckFromToIndex_7 : decode cJ26_outOfBoundsCheckFromToIndex 7 = .ok (.dup, 1) := dk_89 (dk_at dksJ26_outOfBoundsCheckFromToIndex_0 7 rfl rfl)
theorem dJ26_outOfBoundsCheckFromToIndex_8 : decode cJ26_outOfBoundsCheckFromToIndex 8 = .ok (.iconst 0, 1) := dk_3 (dk_at dksJ26_outOfBoundsCheckFromToIndex_0 8 rfl rfl)
theorem dJ26_outOfBoundsCheckFromToIndex_9 : decode cJ26_outOfBoundsCheckFromToIndex 9 = .ok (.iload_n 1, 1) := dk_27 (dk_at dksJ26_outOfBoundsCheckFromToIndex_0 9 rfl rfl)
theorem dJ26_outOfBoundsCheckFromToIndex_10 : decode cJ26_outOfBoundsCheckFromToIndex 10 = .ok (.invokestatic 36, 3) := dk_184 0 36 (dk_at dksJ26_outOfBoundsCheckFromToIndex_0 10 rfl rfl)
theorem dJ26_outOfBoundsCheckFromToIndex_13 : decode cJ26_outOfBoundsCheckFromToIndex 13 = .ok (.aastore, 1) := dk_83 (dk_at dksJ26_outOfBoundsCheckFromToIndex_0 13 rfl rfl)
theorem dJ26_outOfBoundsCheckFromToIndex_14 : decode cJ26_outOfBoundsCheckFromToIndex 14 = .ok (.dup, 1) := dk_89 (dk_at dksJ26_outOfBoundsCheckFromToIndex_0 14 rfl rfl)
theorem dJ26_outOfBoundsCheckFromToIndex_15 : decode cJ26_outOfBoundsCheckFromToIndex 15 = .ok (.iconst 1, 1) := dk_4 (dk_at dksJ26_outOfBoundsCheckFromToIndex_0 15 rfl rfl)
theorem dJ26_outOfBoundsCheckFromToIndex_16 : decode cJ26_outOfBoundsCheckFromToIndex 16 = .ok (.iload_n 2, 1) := dk_28 (dk_at dksJ26_outOfBoundsCheckFromToIndex_0 16 rfl rfl)
theorem dJ26_outOfBoundsCheckFromToIndex_17 : decode cJ26_outOfBoundsCheckFromToIndex 17 = .ok (.invokestatic 36, 3) := dk_184 0 36 (dk_at dksJ26_outOfBoundsCheckFromToIndex_0 17 rfl rfl)
theorem dJ26_outOfBoundsCheckFromToIndex_20 : decode cJ26_outOfBoundsCheckFromToIndex 20 = .ok (.aastore, 1) := dk_83 (dk_at dksJ26_outOfBoundsCheckFromToIndex_0 20 rfl rfl)
theorem dJ26_outOfBoundsCheckFromToIndex_21 : decode cJ26_outOfBoundsCheckFromToIndex 21 = .ok (.dup, 1) := dk_89 (dk_at dksJ26_outOfBoundsCheckFromToIndex_0 21 rfl rfl)
theorem dJ26_outOfBoundsCheckFromToIndex_22 : decode cJ26_outOfBoundsCheckFromToIndex 22 = .ok (.iconst 2, 1) := dk_5 (dk_at dksJ26_outOfBoundsCheckFromToIndex_0 22 rfl rfl)
theorem dJ26_outOfBoundsCheckFromToIndex_23 : decode cJ26_outOfBoundsCheckFromToIndex 23 = .ok (.iload_n 3, 1) := dk_29 (dk_at dksJ26_outOfBoundsCheckFromToIndex_0 23 rfl rfl)
theorem dJ26_outOfBoundsCheckFromToIndex_24 : decode cJ26_outOfBoundsCheckFromToIndex 24 = .ok (.invokestatic 36, 3) := dk_184 0 36 (dk_at dksJ26_outOfBoundsCheckFromToIndex_1 0 rfl rfl)
theorem dJ26_outOfBoundsCheckFromToIndex_27 : decode cJ26_outOfBoundsCheckFromToIndex 27 = .ok (.aastore, 1) := dk_83 (dk_at dksJ26_outOfBoundsCheckFromToIndex_1 3 rfl rfl)
theorem dJ26_outOfBoundsCheckFromToIndex_28 : decode cJ26_outOfBoundsCheckFromToIndex 28 = .ok (.invokestatic 42, 3) := dk_184 0 42 (dk_at dksJ26_outOfBoundsCheckFromToIndex_1 4 rfl rfl)
theorem dJ26_outOfBoundsCheckFromToIndex_31 : decode cJ26_outOfBoundsCheckFromToIndex 31 = .ok (.areturn, 1) := dk_176 (dk_at dksJ26_outOfBoundsCheckFromToIndex_1 7 rfl rfl)
abbrev cJ26_outOfBounds : ByteArray := prog_76_method_2_code
def yJ26_outOfBounds : MethodName := ⟨RJ26, "outOfBounds", "(Ljava/util/function/BiFunction;Ljava/lang/String;[Ljava/lang/Number;)Ljava/lang/RuntimeException;"⟩
def dkwJ26_outOfBounds_2 : List UInt8 := [176]
abbrev dktJ26_outOfBounds_2 : List UInt8 := dkwJ26_outOfBounds_2 ++ []
def dkwJ26_outOfBounds_1 : List UInt8 := [58, 4, 25, 4, 199, 0, 18, 187, 0, 21, 89, 43, 45, 184, 0, 23, 183, 0, 29, 167, 0, 5, 25, 4]
abbrev dktJ26_outOfBounds_1 : List UInt8 := dkwJ26_outOfBounds_1 ++ dktJ26_outOfBounds_2
def dkwJ26_outOfBounds_0 : List UInt8 := [44, 184, 0, 7, 78, 42, 199, 0, 7, 1, 167, 0, 14, 42, 43, 45, 185, 0, 13, 3, 0, 192, 0, 19]
abbrev dktJ26_outOfBounds_0 : List UInt8 := dkwJ26_outOfBounds_0 ++ dktJ26_outOfBounds_1
theorem dksJ26_outOfBounds_0 : cJ26_outOfBounds.data.toList.drop 0 = dktJ26_outOfBounds_0 := by decide +kernel
theorem dksJ26_outOfBounds_1 : cJ26_outOfBounds.data.toList.drop 24 = dktJ26_outOfBounds_1 := dk_seg dksJ26_outOfBounds_0 24 rfl rfl
theorem dksJ26_outOfBounds_2 : cJ26_outOfBounds.data.toList.drop 48 = dktJ26_outOfBounds_2 := dk_seg dksJ26_outOfBounds_1 24 rfl rfl
theorem dJ26_outOfBounds_0 : decode cJ26_outOfBounds 0 = .ok (.aload_n 2, 1) := dk_44 (dk_at dksJ26_outOfBounds_0 0 rfl rfl)
theorem dJ26_outOfBounds_1 : decode cJ26_outOfBounds 1 = .ok (.invokestatic 7, 3) := dk_184 0 7 (dk_at dksJ26_outOfBounds_0 1 rfl rfl)
theorem dJ26_outOfBounds_4 : decode cJ26_outOfBounds 4 = .ok (.astore_n 3, 1) := dk_78 (dk_at dksJ26_outOfBounds_0 4 rfl rfl)
theorem dJ26_outOfBounds_5 : decode cJ26_outOfBounds 5 = .ok (.aload_n 0, 1) := dk_42 (dk_at dksJ26_outOfBounds_0 5 rfl rfl)
theorem dJ26_outOfBounds_6 : decode cJ26_outOfBounds 6 = .ok (.ifnonnull 7, 3) := dk_199 0 7 (dk_at dksJ26_outOfBounds_0 6 rfl rfl)
theorem dJ26_outOfBounds_9 : decode cJ26_outOfBounds 9 = .ok (.aconst_null, 1) := dk_1 (dk_at dksJ26_outOfBounds_0 9 rfl rfl)
theorem dJ26_outOfBounds_10 : decode cJ26_outOfBounds 10 = .ok (.goto 14, 3) := dk_167 0 14 (dk_at dksJ26_outOfBounds_0 10 rfl rfl)
theorem dJ26_outOfBounds_13 : decode cJ26_outOfBounds 13 = .ok (.aload_n 0, 1) := dk_42 (dk_at dksJ26_outOfBounds_0 13 rfl rfl)
theorem dJ26_outOfBounds_14 : decode cJ26_outOfBounds 14 = .ok (.aload_n 1, 1) := dk_43 (dk_at dksJ26_outOfBounds_0 14 rfl rfl)
theorem dJ26_outOfBounds_15 : decode cJ26_outOfBounds 15 = .ok (.aload_n 3, 1) := dk_45 (dk_at dksJ26_outOfBounds_0 15 rfl rfl)
theorem dJ26_outOfBounds_16 : decode cJ26_outOfBounds 16 = .ok (.invokeinterface 13 3, 5) := by decide +kernel
theorem dJ26_outOfBounds_21 : decode cJ26_outOfBounds 21 = .ok (.checkcast 19, 3) := dk_192 0 19 (dk_at dksJ26_outOfBounds_0 21 rfl rfl)
theorem dJ26_outOfBounds_24 : decode cJ26_outOfBounds 24 = .ok (.astore 4, 2) := dk_58 4 (dk_at dksJ26_outOfBounds_1 0 rfl rfl)
theorem dJ26_outOfBounds_26 : decode cJ26_outOfBounds 26 = .ok (.aload 4, 2) := dk_25 4 (dk_at dksJ26_outOfBounds_1 2 rfl rfl)
theorem dJ26_outOfBounds_28 : decode cJ26_outOfBounds 28 = .ok (.ifnonnull 18, 3) := dk_199 0 18 (dk_at dksJ26_outOfBounds_1 4 rfl rfl)
theorem dJ26_outOfBounds_31 : decode cJ26_outOfBounds 31 = .ok (.new 21, 3) := dk_187 0 21 (dk_at dksJ26_outOfBounds_1 7 rfl rfl)
theorem dJ26_outOfBounds_34 : decode cJ26_outOfBounds 34 = .ok (.dup, 1) := dk_89 (dk_at dksJ26_outOfBounds_1 10 rfl rfl)
theorem dJ26_outOfBounds_35 : decode cJ26_outOfBounds 35 = .ok (.aload_n 1, 1) := dk_43 (dk_at dksJ26_outOfBounds_1 11 rfl rfl)
theorem dJ26_outOfBounds_36 : decode cJ26_outOfBounds 36 = .ok (.aload_n 3, 1) := dk_45 (dk_at dksJ26_outOfBounds_1 12 rfl rfl)
theorem dJ26_outOfBounds_37 : decode cJ26_outOfBounds 37 = .ok (.invokestatic 23, 3) := dk_184 0 23 (dk_at dksJ26_outOfBounds_1 13 rfl rfl)
theorem dJ26_outOfBounds_40 : decode cJ26_outOfBounds 40 = .ok (.invokespecial 29, 3) := dk_183 0 29 (dk_at dksJ26_outOfBounds_1 16 rfl rfl)
theorem dJ26_outOfBounds_43 : decode cJ26_outOfBounds 43 = .ok (.goto 5, 3) := dk_167 0 5 (dk_at dksJ26_outOfBounds_1 19 rfl rfl)
theorem dJ26_outOfBounds_46 : decode cJ26_outOfBounds 46 = .ok (.aload 4, 2) := dk_25 4 (dk_at dksJ26_outOfBounds_1 22 rfl rfl)
theorem dJ26_outOfBounds_48 : decode cJ26_outOfBounds 48 = .ok (.areturn, 1) := dk_176 (dk_at dksJ26_outOfBounds_2 0 rfl rfl)
abbrev cJ26_outOfBoundsMessage : ByteArray := prog_76_method_10_code
def yJ26_outOfBoundsMessage : MethodName := ⟨RJ26, "outOfBoundsMessage", "(Ljava/lang/String;Ljava/util/List;)Ljava/lang/String;"⟩
def dkwJ26_outOfBoundsMessage_19 : List UInt8 := [184, 0, 62, 176]
abbrev dktJ26_outOfBoundsMessage_19 : List UInt8 := dkwJ26_outOfBoundsMessage_19 ++ []
def dkwJ26_outOfBoundsMessage_18 : List UInt8 := [185, 0, 85, 2, 0, 83, 184, 0, 62, 176, 18, 93, 5, 189, 0, 2, 89, 3, 42, 83, 89, 4, 43, 83]
abbrev dktJ26_outOfBoundsMessage_18 : List UInt8 := dkwJ26_outOfBoundsMessage_18 ++ dktJ26_outOfBoundsMessage_19
def dkwJ26_outOfBoundsMessage_17 : List UInt8 := [185, 0, 85, 2, 0, 83, 89, 4, 43, 4, 185, 0, 85, 2, 0, 83, 89, 5, 43, 5]
abbrev dktJ26_outOfBoundsMessage_17 : List UInt8 := dkwJ26_outOfBoundsMessage_17 ++ dktJ26_outOfBoundsMessage_18
def dkwJ26_outOfBoundsMessage_16 : List UInt8 := [185, 0, 85, 2, 0, 83, 184, 0, 62, 176, 18, 91, 6, 189, 0, 2, 89, 3, 43, 3]
abbrev dktJ26_outOfBoundsMessage_16 : List UInt8 := dkwJ26_outOfBoundsMessage_16 ++ dktJ26_outOfBoundsMessage_17
def dkwJ26_outOfBoundsMessage_15 : List UInt8 := [185, 0, 85, 2, 0, 83, 89, 4, 43, 4, 185, 0, 85, 2, 0, 83, 89, 5, 43, 5]
abbrev dktJ26_outOfBoundsMessage_15 : List UInt8 := dkwJ26_outOfBoundsMessage_15 ++ dktJ26_outOfBoundsMessage_16
def dkwJ26_outOfBoundsMessage_14 : List UInt8 := [185, 0, 85, 2, 0, 83, 184, 0, 62, 176, 18, 89, 6, 189, 0, 2, 89, 3, 43, 3]
abbrev dktJ26_outOfBoundsMessage_14 : List UInt8 := dkwJ26_outOfBoundsMessage_14 ++ dktJ26_outOfBoundsMessage_15
def dkwJ26_outOfBoundsMessage_13 : List UInt8 := [18, 83, 5, 189, 0, 2, 89, 3, 43, 3, 185, 0, 85, 2, 0, 83, 89, 4, 43, 4]
abbrev dktJ26_outOfBoundsMessage_13 : List UInt8 := dkwJ26_outOfBoundsMessage_13 ++ dktJ26_outOfBoundsMessage_14
def dkwJ26_outOfBoundsMessage_12 : List UInt8 := [170, 0, 0, 0, 0, 0, 0, 138, 0, 0, 0, 0, 0, 0, 0, 2, 0, 0, 0, 28, 0, 0, 0, 58, 0, 0, 0, 98]
abbrev dktJ26_outOfBoundsMessage_12 : List UInt8 := dkwJ26_outOfBoundsMessage_12 ++ dktJ26_outOfBoundsMessage_13
def dkwJ26_outOfBoundsMessage_11 : List UInt8 := [4, 54, 4, 167, 0, 15, 45, 18, 48, 182, 0, 74, 153, 0, 6, 5, 54, 4, 21, 4]
abbrev dktJ26_outOfBoundsMessage_11 : List UInt8 := dkwJ26_outOfBoundsMessage_11 ++ dktJ26_outOfBoundsMessage_12
def dkwJ26_outOfBoundsMessage_10 : List UInt8 := [45, 18, 32, 182, 0, 74, 153, 0, 36, 3, 54, 4, 167, 0, 30, 45, 18, 46, 182, 0, 74, 153, 0, 21]
abbrev dktJ26_outOfBoundsMessage_10 : List UInt8 := dkwJ26_outOfBoundsMessage_10 ++ dktJ26_outOfBoundsMessage_11
def dkwJ26_outOfBoundsMessage_9 : List UInt8 := [171, 0, 0, 0, 0, 76, 0, 0, 0, 3, 223, 226, 56, 170, 0, 0, 0, 34, 109, 239, 57, 229, 0, 0, 0, 49, 110, 52, 131, 65, 0, 0, 0, 64]
abbrev dktJ26_outOfBoundsMessage_9 : List UInt8 := dkwJ26_outOfBoundsMessage_9 ++ dktJ26_outOfBoundsMessage_10
def dkwJ26_outOfBoundsMessage_8 : List UInt8 := [167, 0, 4, 42, 78, 2, 54, 4, 45, 182, 0, 70]
abbrev dktJ26_outOfBoundsMessage_8 : List UInt8 := dkwJ26_outOfBoundsMessage_8 ++ dktJ26_outOfBoundsMessage_9
def dkwJ26_outOfBoundsMessage_7 : List UInt8 := [5, 61, 167, 0, 8, 6, 61, 167, 0, 3, 43, 185, 0, 78, 1, 0, 28, 159, 0, 8, 18, 81]
abbrev dktJ26_outOfBoundsMessage_7 : List UInt8 := dkwJ26_outOfBoundsMessage_7 ++ dktJ26_outOfBoundsMessage_8
def dkwJ26_outOfBoundsMessage_6 : List UInt8 := [170, 0, 0, 0, 0, 0, 0, 38, 0, 0, 0, 0, 0, 0, 0, 2, 0, 0, 0, 28, 0, 0, 0, 33, 0, 0, 0, 33]
abbrev dktJ26_outOfBoundsMessage_6 : List UInt8 := dkwJ26_outOfBoundsMessage_6 ++ dktJ26_outOfBoundsMessage_7
def dkwJ26_outOfBoundsMessage_5 : List UInt8 := [4, 54, 4, 167, 0, 15, 45, 18, 48, 182, 0, 74, 153, 0, 6, 5, 54, 4, 21, 4]
abbrev dktJ26_outOfBoundsMessage_5 : List UInt8 := dkwJ26_outOfBoundsMessage_5 ++ dktJ26_outOfBoundsMessage_6
def dkwJ26_outOfBoundsMessage_4 : List UInt8 := [45, 18, 32, 182, 0, 74, 153, 0, 36, 3, 54, 4, 167, 0, 30, 45, 18, 46, 182, 0, 74, 153, 0, 21]
abbrev dktJ26_outOfBoundsMessage_4 : List UInt8 := dkwJ26_outOfBoundsMessage_4 ++ dktJ26_outOfBoundsMessage_5
def dkwJ26_outOfBoundsMessage_3 : List UInt8 := [171, 0, 0, 0, 0, 0, 77, 0, 0, 0, 3, 223, 226, 56, 170, 0, 0, 0, 35, 109, 239, 57, 229, 0, 0, 0, 50, 110, 52, 131, 65, 0, 0, 0, 65]
abbrev dktJ26_outOfBoundsMessage_3 : List UInt8 := dkwJ26_outOfBoundsMessage_3 ++ dktJ26_outOfBoundsMessage_4
def dkwJ26_outOfBoundsMessage_2 : List UInt8 := [42, 83, 184, 0, 62, 176, 3, 61, 42, 78, 2, 54, 4, 45, 182, 0, 70]
abbrev dktJ26_outOfBoundsMessage_2 : List UInt8 := dkwJ26_outOfBoundsMessage_2 ++ dktJ26_outOfBoundsMessage_3
def dkwJ26_outOfBoundsMessage_1 : List UInt8 := [4, 189, 0, 2, 89, 3, 43, 83, 184, 0, 62, 176, 43, 199, 0, 17, 18, 68, 4, 189, 0, 2, 89, 3]
abbrev dktJ26_outOfBoundsMessage_1 : List UInt8 := dkwJ26_outOfBoundsMessage_1 ++ dktJ26_outOfBoundsMessage_2
def dkwJ26_outOfBoundsMessage_0 : List UInt8 := [42, 199, 0, 17, 43, 199, 0, 13, 18, 60, 3, 189, 0, 2, 184, 0, 62, 176, 42, 199, 0, 17, 18, 68]
abbrev dktJ26_outOfBoundsMessage_0 : List UInt8 := dkwJ26_outOfBoundsMessage_0 ++ dktJ26_outOfBoundsMessage_1
theorem dksJ26_outOfBoundsMessage_0 : cJ26_outOfBoundsMessage.data.toList.drop 0 = dktJ26_outOfBoundsMessage_0 := by decide +kernel
theorem dksJ26_outOfBoundsMessage_1 : cJ26_outOfBoundsMessage.data.toList.drop 24 = dktJ26_outOfBoundsMessage_1 := dk_seg dksJ26_outOfBoundsMessage_0 24 rfl rfl
theorem dksJ26_outOfBoundsMessage_2 : cJ26_outOfBoundsMessage.data.toList.drop 48 = dktJ26_outOfBoundsMessage_2 := dk_seg dksJ26_outOfBoundsMessage_1 24 rfl rfl
theorem dksJ26_outOfBoundsMessage_3 : cJ26_outOfBoundsMessage.data.toList.drop 65 = dktJ26_outOfBoundsMessage_3 := dk_seg dksJ26_outOfBoundsMessage_2 17 rfl rfl
theorem dksJ26_outOfBoundsMessage_4 : cJ26_outOfBoundsMessage.data.toList.drop 100 = dktJ26_outOfBoundsMessage_4 := dk_seg dksJ26_outOfBoundsMessage_3 35 rfl rfl
theorem dksJ26_outOfBoundsMessage_5 : cJ26_outOfBoundsMessage.data.toList.drop 124 = dktJ26_outOfBoundsMessage_5 := dk_seg dksJ26_outOfBoundsMessage_4 24 rfl rfl
theorem dksJ26_outOfBoundsMessage_6 : cJ26_outOfBoundsMessage.data.toList.drop 144 = dktJ26_outOfBoundsMessage_6 := dk_seg dksJ26_outOfBoundsMessage_5 20 rfl rfl
theorem dksJ26_outOfBoundsMessage_7 : cJ26_outOfBoundsMessage.data.toList.drop 172 = dktJ26_outOfBoundsMessage_7 := dk_seg dksJ26_outOfBoundsMessage_6 28 rfl rfl
theorem dksJ26_outOfBoundsMessage_8 : cJ26_outOfBoundsMessage.data.toList.drop 194 = dktJ26_outOfBoundsMessage_8 := dk_seg dksJ26_outOfBoundsMessage_7 22 rfl rfl
theorem dksJ26_outOfBoundsMessage_9 : cJ26_outOfBoundsMessage.data.toList.drop 206 = dktJ26_outOfBoundsMessage_9 := dk_seg dksJ26_outOfBoundsMessage_8 12 rfl rfl
theorem dksJ26_outOfBoundsMessage_10 : cJ26_outOfBoundsMessage.data.toList.drop 240 = dktJ26_outOfBoundsMessage_10 := dk_seg dksJ26_outOfBoundsMessage_9 34 rfl rfl
theorem dksJ26_outOfBoundsMessage_11 : cJ26_outOfBoundsMessage.data.toList.drop 264 = dktJ26_outOfBoundsMessage_11 := dk_seg dksJ26_outOfBoundsMessage_10 24 rfl rfl
theorem dksJ26_outOfBoundsMessage_12 : cJ26_outOfBoundsMessage.data.toList.drop 284 = dktJ26_outOfBoundsMessage_12 := dk_seg dksJ26_outOfBoundsMessage_11 20 rfl rfl
theorem dksJ26_outOfBoundsMessage_13 : cJ26_outOfBoundsMessage.data.toList.drop 312 = dktJ26_outOfBoundsMessage_13 := dk_seg dksJ26_outOfBoundsMessage_12 28 rfl rfl
theorem dksJ26_outOfBoundsMessage_14 : cJ26_outOfBoundsMessage.data.toList.drop 332 = dktJ26_outOfBoundsMessage_14 := dk_seg dksJ26_outOfBoundsMessage_13 20 rfl rfl
theorem dksJ26_outOfBoundsMessage_15 : cJ26_outOfBoundsMessage.data.toList.drop 352 = dktJ26_outOfBoundsMessage_15 := dk_seg dksJ26_outOfBoundsMessage_14 20 rfl rfl
theorem dksJ26_outOfBoundsMessage_16 : cJ26_outOfBoundsMessage.data.toList.drop 372 = dktJ26_outOfBoundsMessage_16 := dk_seg dksJ26_outOfBoundsMessage_15 20 rfl rfl
theorem dksJ26_outOfBoundsMessage_17 : cJ26_outOfBoundsMessage.data.toList.drop 392 = dktJ26_outOfBoundsMessage_17 := dk_seg dksJ26_outOfBoundsMessage_16 20 rfl rfl
theorem dksJ26_outOfBoundsMessage_18 : cJ26_outOfBoundsMessage.data.toList.drop 412 = dktJ26_outOfBoundsMessage_18 := dk_seg dksJ26_outOfBoundsMessage_17 20 rfl rfl
theorem dksJ26_outOfBoundsMessage_19 : cJ26_outOfBoundsMessage.data.toList.drop 436 = dktJ26_outOfBoundsMessage_19 := dk_seg dksJ26_outOfBoundsMessage_18 24 rfl rfl
theorem dJ26_outOfBoundsMessage_0 : decode cJ26_outOfBoundsMessage 0 = .ok (.aload_n 0, 1) := dk_42 (dk_at dksJ26_outOfBoundsMessage_0 0 rfl rfl)
theorem dJ26_outOfBoundsMessage_1 : decode cJ26_outOfBoundsMessage 1 = .ok (.ifnonnull 17, 3) := dk_199 0 17 (dk_at dksJ26_outOfBoundsMessage_0 1 rfl rfl)
theorem dJ26_outOfBoundsMessage_4 : decode cJ26_outOfBoundsMessage 4 = .ok (.aload_n 1, 1) := dk_43 (dk_at dksJ26_outOfBoundsMessage_0 4 rfl rfl)
theorem dJ26_outOfBoundsMessage_5 : decode cJ26_outOfBoundsMessage 5 = .ok (.ifnonnull 13, 3) := dk_199 0 13 (dk_at dksJ26_outOfBoundsMessage_0 5 rfl rfl)
theorem dJ26_outOfBoundsMessage_8 : decode cJ26_outOfBoundsMessage 8 = .ok (.ldc 60, 2) := dk_18 60 (dk_at dksJ26_outOfBoundsMessage_0 8 rfl rfl)
theorem dJ26_outOfBoundsMessage_10 : decode cJ26_outOfBoundsMessage 10 = .ok (.iconst 0, 1) := dk_3 (dk_at dksJ26_outOfBoundsMessage_0 10 rfl rfl)
theorem dJ26_outOfBoundsMessage_11 : decode cJ26_outOfBoundsMessage 11 = .ok (.anewarray 2, 3) := dk_189 0 2 (dk_at dksJ26_outOfBoundsMessage_0 11 rfl rfl)
theorem dJ26_outOfBoundsMessage_14 : decode cJ26_outOfBoundsMessage 14 = .ok (.invokestatic 62, 3) := dk_184 0 62 (dk_at dksJ26_outOfBoundsMessage_0 14 rfl rfl)
theorem dJ26_outOfBoundsMessage_17 : decode cJ26_outOfBoundsMessage 17 = .ok (.areturn, 1) := dk_176 (dk_at dksJ26_outOfBoundsMessage_0 17 rfl rfl)
theorem dJ26_outOfBoundsMessage_18 : decode cJ26_outOfBoundsMessage 18 = .ok (.aload_n 0, 1) := dk_42 (dk_at dksJ26_outOfBoundsMessage_0 18 rfl rfl)
theorem dJ26_outOfBoundsMessage_19 : decode cJ26_outOfBoundsMessage 19 = .ok (.ifnonnull 17, 3) := dk_199 0 17 (dk_at dksJ26_outOfBoundsMessage_0 19 rfl rfl)
theorem dJ26_outOfBoundsMessage_22 : decode cJ26_outOfBoundsMessage 22 = .ok (.ldc 68, 2) := dk_18 68 (dk_at dksJ26_outOfBoundsMessage_0 22 rfl rfl)
theorem dJ26_outOfBoundsMessage_24 : decode cJ26_outOfBoundsMessage 24 = .ok (.iconst 1, 1) := dk_4 (dk_at dksJ26_outOfBoundsMessage_1 0 rfl rfl)
theorem dJ26_outOfBoundsMessage_25 : decode cJ26_outOfBoundsMessage 25 = .ok (.anewarray 2, 3) := dk_189 0 2 (dk_at dksJ26_outOfBoundsMessage_1 1 rfl rfl)
theorem dJ26_outOfBoundsMessage_28 : decode cJ26_outOfBoundsMessage 28 = .ok (.dup, 1) := dk_89 (dk_at dksJ26_outOfBoundsMessage_1 4 rfl rfl)
theorem dJ26_outOfBoundsMessage_29 : decode cJ26_outOfBoundsMessage 29 = .ok (.iconst 0, 1) := dk_3 (dk_at dksJ26_outOfBoundsMessage_1 5 rfl rfl)
theorem dJ26_outOfBoundsMessage_30 : decode cJ26_outOfBoundsMessage 30 = .ok (.aload_n 1, 1) := dk_43 (dk_at dksJ26_outOfBoundsMessage_1 6 rfl rfl)
theorem dJ26_outOfBoundsMessage_31 : decode cJ26_outOfBoundsMessage 31 = .ok (.aastore, 1) := dk_83 (dk_at dksJ26_outOfBoundsMessage_1 7 rfl rfl)
theorem dJ26_outOfBoundsMessage_32 : decode cJ26_outOfBoundsMessage 32 = .ok (.invokestatic 62, 3) := dk_184 0 62 (dk_at dksJ26_outOfBoundsMessage_1 8 rfl rfl)
theorem dJ26_outOfBoundsMessage_35 : decode cJ26_outOfBoundsMessage 35 = .ok (.areturn, 1) := dk_176 (dk_at dksJ26_outOfBoundsMessage_1 11 rfl rfl)
theorem dJ26_outOfBoundsMessage_36 : decode cJ26_outOfBoundsMessage 36 = .ok (.aload_n 1, 1) := dk_43 (dk_at dksJ26_outOfBoundsMessage_1 12 rfl rfl)
theorem dJ26_outOfBoundsMessage_37 : decode cJ26_outOfBoundsMessage 37 = .ok (.ifnonnull 17, 3) := dk_199 0 17 (dk_at dksJ26_outOfBoundsMessage_1 13 rfl rfl)
theorem dJ26_outOfBoundsMessage_40 : decode cJ26_outOfBoundsMessage 40 = .ok (.ldc 68, 2) := dk_18 68 (dk_at dksJ26_outOfBoundsMessage_1 16 rfl rfl)
theorem dJ26_outOfBoundsMessage_42 : decode cJ26_outOfBoundsMessage 42 = .ok (.iconst 1, 1) := dk_4 (dk_at dksJ26_outOfBoundsMessage_1 18 rfl rfl)
theorem dJ26_outOfBoundsMessage_43 : decode cJ26_outOfBoundsMessage 43 = .ok (.anewarray 2, 3) := dk_189 0 2 (dk_at dksJ26_outOfBoundsMessage_1 19 rfl rfl)
theorem dJ26_outOfBoundsMessage_46 : decode cJ26_outOfBoundsMessage 46 = .ok (.dup, 1) := dk_89 (dk_at dksJ26_outOfBoundsMessage_1 22 rfl rfl)
theorem dJ26_outOfBoundsMessage_47 : decode cJ26_outOfBoundsMessage 47 = .ok (.iconst 0, 1) := dk_3 (dk_at dksJ26_outOfBoundsMessage_1 23 rfl rfl)
theorem dJ26_outOfBoundsMessage_48 : decode cJ26_outOfBoundsMessage 48 = .ok (.aload_n 0, 1) := dk_42 (dk_at dksJ26_outOfBoundsMessage_2 0 rfl rfl)
theorem dJ26_outOfBoundsMessage_49 : decode cJ26_outOfBoundsMessage 49 = .ok (.aastore, 1) := dk_83 (dk_at dksJ26_outOfBoundsMessage_2 1 rfl rfl)
theorem dJ26_outOfBoundsMessage_50 : decode cJ26_outOfBoundsMessage 50 = .ok (.invokestatic 62, 3) := dk_184 0 62 (dk_at dksJ26_outOfBoundsMessage_2 2 rfl rfl)
theorem dJ26_outOfBoundsMessage_53 : decode cJ26_outOfBoundsMessage 53 = .ok (.areturn, 1) := dk_176 (dk_at dksJ26_outOfBoundsMessage_2 5 rfl rfl)
theorem dJ26_outOfBoundsMessage_54 : decode cJ26_outOfBoundsMessage 54 = .ok (.iconst 0, 1) := dk_3 (dk_at dksJ26_outOfBoundsMessage_2 6 rfl rfl)
theorem dJ26_outOfBoundsMessage_55 : decode cJ26_outOfBoundsMessage 55 = .ok (.istore_n 2, 1) := dk_61 (dk_at dksJ26_outOfBoundsMessage_2 7 rfl rfl)
theorem dJ26_outOfBoundsMessage_56 : decode cJ26_outOfBoundsMessage 56 = .ok (.aload_n 0, 1) := dk_42 (dk_at dksJ26_outOfBoundsMessage_2 8 rfl rfl)
theorem dJ26_outOfBoundsMessage_57 : decode cJ26_outOfBoundsMessage 57 = .ok (.astore_n 3, 1) := dk_78 (dk_at dksJ26_outOfBoundsMessage_2 9 rfl rfl)
theorem dJ26_outOfBoundsMessage_58 : decode cJ26_outOfBoundsMessage 58 = .ok (.iconst (-1), 1) := dk_2 (dk_at dksJ26_outOfBoundsMessage_2 10 rfl rfl)
theorem dJ26_outOfBoundsMessage_59 : decode cJ26_outOfBoundsMessage 59 = .ok (.istore 4, 2) := dk_54 4 (dk_at dksJ26_outOfBoundsMessage_2 11 rfl rfl)
theorem dJ26_outOfBoundsMessage_61 : decode cJ26_outOfBoundsMessage 61 = .ok (.aload_n 3, 1) := dk_45 (dk_at dksJ26_outOfBoundsMessage_2 13 rfl rfl)
theorem dJ26_outOfBoundsMessage_62 : decode cJ26_outOfBoundsMessage 62 = .ok (.invokevirtual 70, 3) := dk_182 0 70 (dk_at dksJ26_outOfBoundsMessage_2 14 rfl rfl)
theorem dJ26_outOfBoundsMessage_65 : decode cJ26_outOfBoundsMessage 65 = .ok (.lookupswitch 77 #[(-538822486, 35), (1844394469, 50), (1848935233, 65)], 35) := by decide +kernel
theorem dJ26_outOfBoundsMessage_100 : decode cJ26_outOfBoundsMessage 100 = .ok (.aload_n 3, 1) := dk_45 (dk_at dksJ26_outOfBoundsMessage_4 0 rfl rfl)
theorem dJ26_outOfBoundsMessage_101 : decode cJ26_outOfBoundsMessage 101 = .ok (.ldc 32, 2) := dk_18 32 (dk_at dksJ26_outOfBoundsMessage_4 1 rfl rfl)
theorem dJ26_outOfBoundsMessage_103 : decode cJ26_outOfBoundsMessage 103 = .ok (.invokevirtual 74, 3) := dk_182 0 74 (dk_at dksJ26_outOfBoundsMessage_4 3 rfl rfl)
theorem dJ26_outOfBoundsMessage_106 : decode cJ26_outOfBoundsMessage 106 = .ok (.ifCond .eq 36, 3) := dk_153 0 36 (dk_at dksJ26_outOfBoundsMessage_4 6 rfl rfl)
theorem dJ26_outOfBoundsMessage_109 : decode cJ26_outOfBoundsMessage 109 = .ok (.iconst 0, 1) := dk_3 (dk_at dksJ26_outOfBoundsMessage_4 9 rfl rfl)
theorem dJ26_outOfBoundsMessage_110 : decode cJ26_outOfBoundsMessage 110 = .ok (.istore 4, 2) := dk_54 4 (dk_at dksJ26_outOfBoundsMessage_4 10 rfl rfl)
theorem dJ26_outOfBoundsMessage_112 : decode cJ26_outOfBoundsMessage 112 = .ok (.goto 30, 3) := dk_167 0 30 (dk_at dksJ26_outOfBoundsMessage_4 12 rfl rfl)
theorem dJ26_outOfBoundsMessage_115 : decode cJ26_outOfBoundsMessage 115 = .ok (.aload_n 3, 1) := dk_45 (dk_at dksJ26_outOfBoundsMessage_4 15 rfl rfl)
theorem dJ26_outOfBoundsMessage_116 : decode cJ26_outOfBoundsMessage 116 = .ok (.ldc 46, 2) := dk_18 46 (dk_at dksJ26_outOfBoundsMessage_4 16 rfl rfl)
theorem dJ26_outOfBoundsMessage_118 : decode cJ26_outOfBoundsMessage 118 = .ok (.invokevirtual 74, 3) := dk_182 0 74 (dk_at dksJ26_outOfBoundsMessage_4 18 rfl rfl)
theorem dJ26_outOfBoundsMessage_121 : decode cJ26_outOfBoundsMessage 121 = .ok (.ifCond .eq 21, 3) := dk_153 0 21 (dk_at dksJ26_outOfBoundsMessage_4 21 rfl rfl)
theorem dJ26_outOfBoundsMessage_124 : decode cJ26_outOfBoundsMessage 124 = .ok (.iconst 1, 1) := dk_4 (dk_at dksJ26_outOfBoundsMessage_5 0 rfl rfl)
theorem dJ26_outOfBoundsMessage_125 : decode cJ26_outOfBoundsMessage 125 = .ok (.istore 4, 2) := dk_54 4 (dk_at dksJ26_outOfBoundsMessage_5 1 rfl rfl)
theorem dJ26_outOfBoundsMessage_127 : decode cJ26_outOfBoundsMessage 127 = .ok (.goto 15, 3) := dk_167 0 15 (dk_at dksJ26_outOfBoundsMessage_5 3 rfl rfl)
theorem dJ26_outOfBoundsMessage_130 : decode cJ26_outOfBoundsMessage 130 = .ok (.aload_n 3, 1) := dk_45 (dk_at dksJ26_outOfBoundsMessage_5 6 rfl rfl)
theorem dJ26_outOfBoundsMessage_131 : decode cJ26_outOfBoundsMessage 131 = .ok (.ldc 48, 2) := dk_18 48 (dk_at dksJ26_outOfBoundsMessage_5 7 rfl rfl)
theorem dJ26_outOfBoundsMessage_133 : decode cJ26_outOfBoundsMessage 133 = .ok (.invokevirtual 74, 3) := dk_182 0 74 (dk_at dksJ26_outOfBoundsMessage_5 9 rfl rfl)
theorem dJ26_outOfBoundsMessage_136 : decode cJ26_outOfBoundsMessage 136 = .ok (.ifCond .eq 6, 3) := dk_153 0 6 (dk_at dksJ26_outOfBoundsMessage_5 12 rfl rfl)
theorem dJ26_outOfBoundsMessage_139 : decode cJ26_outOfBoundsMessage 139 = .ok (.iconst 2, 1) := dk_5 (dk_at dksJ26_outOfBoundsMessage_5 15 rfl rfl)
theorem dJ26_outOfBoundsMessage_140 : decode cJ26_outOfBoundsMessage 140 = .ok (.istore 4, 2) := dk_54 4 (dk_at dksJ26_outOfBoundsMessage_5 16 rfl rfl)
theorem dJ26_outOfBoundsMessage_142 : decode cJ26_outOfBoundsMessage 142 = .ok (.iload 4, 2) := dk_21 4 (dk_at dksJ26_outOfBoundsMessage_5 18 rfl rfl)
theorem dJ26_outOfBoundsMessage_144 : decode cJ26_outOfBoundsMessage 144 = .ok (.tableswitch 38 0 2 #[28, 33, 33], 28) := by decide +kernel
theorem dJ26_outOfBoundsMessage_172 : decode cJ26_outOfBoundsMessage 172 = .ok (.iconst 2, 1) := dk_5 (dk_at dksJ26_outOfBoundsMessage_7 0 rfl rfl)
theorem dJ26_outOfBoundsMessage_173 : decode cJ26_outOfBoundsMessage 173 = .ok (.istore_n 2, 1) := dk_61 (dk_at dksJ26_outOfBoundsMessage_7 1 rfl rfl)
theorem dJ26_outOfBoundsMessage_174 : decode cJ26_outOfBoundsMessage 174 = .ok (.goto 8, 3) := dk_167 0 8 (dk_at dksJ26_outOfBoundsMessage_7 2 rfl rfl)
theorem dJ26_outOfBoundsMessage_177 : decode cJ26_outOfBoundsMessage 177 = .ok (.iconst 3, 1) := dk_6 (dk_at dksJ26_outOfBoundsMessage_7 5 rfl rfl)
theorem dJ26_outOfBoundsMessage_178 : decode cJ26_outOfBoundsMessage 178 = .ok (.istore_n 2, 1) := dk_61 (dk_at dksJ26_outOfBoundsMessage_7 6 rfl rfl)
theorem dJ26_outOfBoundsMessage_179 : decode cJ26_outOfBoundsMessage 179 = .ok (.goto 3, 3) := dk_167 0 3 (dk_at dksJ26_outOfBoundsMessage_7 7 rfl rfl)
theorem dJ26_outOfBoundsMessage_182 : decode cJ26_outOfBoundsMessage 182 = .ok (.aload_n 1, 1) := dk_43 (dk_at dksJ26_outOfBoundsMessage_7 10 rfl rfl)
theorem dJ26_outOfBoundsMessage_183 : decode cJ26_outOfBoundsMessage 183 = .ok (.invokeinterface 78 1, 5) := by decide +kernel
theorem dJ26_outOfBoundsMessage_188 : decode cJ26_outOfBoundsMessage 188 = .ok (.iload_n 2, 1) := dk_28 (dk_at dksJ26_outOfBoundsMessage_7 16 rfl rfl)
theorem dJ26_outOfBoundsMessage_189 : decode cJ26_outOfBoundsMessage 189 = .ok (.if_icmp .eq 8, 3) := dk_159 0 8 (dk_at dksJ26_outOfBoundsMessage_7 17 rfl rfl)
theorem dJ26_outOfBoundsMessage_192 : decode cJ26_outOfBoundsMessage 192 = .ok (.ldc 81, 2) := dk_18 81 (dk_at dksJ26_outOfBoundsMessage_7 20 rfl rfl)
theorem dJ26_outOfBoundsMessage_194 : decode cJ26_outOfBoundsMessage 194 = .ok (.goto 4, 3) := dk_167 0 4 (dk_at dksJ26_outOfBoundsMessage_8 0 rfl rfl)
theorem dJ26_outOfBoundsMessage_197 : decode cJ26_outOfBoundsMessage 197 = .ok (.aload_n 0, 1) := dk_42 (dk_at dksJ26_outOfBoundsMessage_8 3 rfl rfl)
theorem dJ26_outOfBoundsMessage_198 : decode cJ26_outOfBoundsMessage 198 = .ok (.astore_n 3, 1) := dk_78 (dk_at dksJ26_outOfBoundsMessage_8 4 rfl rfl)
theorem dJ26_outOfBoundsMessage_199 : decode cJ26_outOfBoundsMessage 199 = .ok (.iconst (-1), 1) := dk_2 (dk_at dksJ26_outOfBoundsMessage_8 5 rfl rfl)
theorem dJ26_outOfBoundsMessage_200 : decode cJ26_outOfBoundsMessage 200 = .ok (.istore 4, 2) := dk_54 4 (dk_at dksJ26_outOfBoundsMessage_8 6 rfl rfl)
theorem dJ26_outOfBoundsMessage_202 : decode cJ26_outOfBoundsMessage 202 = .ok (.aload_n 3, 1) := dk_45 (dk_at dksJ26_outOfBoundsMessage_8 8 rfl rfl)
theorem dJ26_outOfBoundsMessage_203 : decode cJ26_outOfBoundsMessage 203 = .ok (.invokevirtual 70, 3) := dk_182 0 70 (dk_at dksJ26_outOfBoundsMessage_8 9 rfl rfl)
theorem dJ26_outOfBoundsMessage_206 : decode cJ26_outOfBoundsMessage 206 = .ok (.lookupswitch 76 #[(-538822486, 34), (1844394469, 49), (1848935233, 64)], 34) := by decide +kernel
theorem dJ26_outOfBoundsMessage_240 : decode cJ26_outOfBoundsMessage 240 = .ok (.aload_n 3, 1) := dk_45 (dk_at dksJ26_outOfBoundsMessage_10 0 rfl rfl)
theorem dJ26_outOfBoundsMessage_241 : decode cJ26_outOfBoundsMessage 241 = .ok (.ldc 32, 2) := dk_18 32 (dk_at dksJ26_outOfBoundsMessage_10 1 rfl rfl)
theorem dJ26_outOfBoundsMessage_243 : decode cJ26_outOfBoundsMessage 243 = .ok (.invokevirtual 74, 3) := dk_182 0 74 (dk_at dksJ26_outOfBoundsMessage_10 3 rfl rfl)
theorem dJ26_outOfBoundsMessage_246 : decode cJ26_outOfBoundsMessage 246 = .ok (.ifCond .eq 36, 3) := dk_153 0 36 (dk_at dksJ26_outOfBoundsMessage_10 6 rfl rfl)
theorem dJ26_outOfBoundsMessage_249 : decode cJ26_outOfBoundsMessage 249 = .ok (.iconst 0, 1) := dk_3 (dk_at dksJ26_outOfBoundsMessage_10 9 rfl rfl)
theorem dJ26_outOfBoundsMessage_250 : decode cJ26_outOfBoundsMessage 250 = .ok (.istore 4, 2) := dk_54 4 (dk_at dksJ26_outOfBoundsMessage_10 10 rfl rfl)
theorem dJ26_outOfBoundsMessage_252 : decode cJ26_outOfBoundsMessage 252 = .ok (.goto 30, 3) := dk_167 0 30 (dk_at dksJ26_outOfBoundsMessage_10 12 rfl rfl)
theorem dJ26_outOfBoundsMessage_255 : decode cJ26_outOfBoundsMessage 255 = .ok (.aload_n 3, 1) := dk_45 (dk_at dksJ26_outOfBoundsMessage_10 15 rfl rfl)
theorem dJ26_outOfBoundsMessage_256 : decode cJ26_outOfBoundsMessage 256 = .ok (.ldc 46, 2) := dk_18 46 (dk_at dksJ26_outOfBoundsMessage_10 16 rfl rfl)
theorem dJ26_outOfBoundsMessage_258 : decode cJ26_outOfBoundsMessage 258 = .ok (.invokevirtual 74, 3) := dk_182 0 74 (dk_at dksJ26_outOfBoundsMessage_10 18 rfl rfl)
theorem dJ26_outOfBoundsMessage_261 : decode cJ26_outOfBoundsMessage 261 = .ok (.ifCond .eq 21, 3) := dk_153 0 21 (dk_at dksJ26_outOfBoundsMessage_10 21 rfl rfl)
theorem dJ26_outOfBoundsMessage_264 : decode cJ26_outOfBoundsMessage 264 = .ok (.iconst 1, 1) := dk_4 (dk_at dksJ26_outOfBoundsMessage_11 0 rfl rfl)
theorem dJ26_outOfBoundsMessage_265 : decode cJ26_outOfBoundsMessage 265 = .ok (.istore 4, 2) := dk_54 4 (dk_at dksJ26_outOfBoundsMessage_11 1 rfl rfl)
theorem dJ26_outOfBoundsMessage_267 : decode cJ26_outOfBoundsMessage 267 = .ok (.goto 15, 3) := dk_167 0 15 (dk_at dksJ26_outOfBoundsMessage_11 3 rfl rfl)
theorem dJ26_outOfBoundsMessage_270 : decode cJ26_outOfBoundsMessage 270 = .ok (.aload_n 3, 1) := dk_45 (dk_at dksJ26_outOfBoundsMessage_11 6 rfl rfl)
theorem dJ26_outOfBoundsMessage_271 : decode cJ26_outOfBoundsMessage 271 = .ok (.ldc 48, 2) := dk_18 48 (dk_at dksJ26_outOfBoundsMessage_11 7 rfl rfl)
theorem dJ26_outOfBoundsMessage_273 : decode cJ26_outOfBoundsMessage 273 = .ok (.invokevirtual 74, 3) := dk_182 0 74 (dk_at dksJ26_outOfBoundsMessage_11 9 rfl rfl)
theorem dJ26_outOfBoundsMessage_276 : decode cJ26_outOfBoundsMessage 276 = .ok (.ifCond .eq 6, 3) := dk_153 0 6 (dk_at dksJ26_outOfBoundsMessage_11 12 rfl rfl)
theorem dJ26_outOfBoundsMessage_279 : decode cJ26_outOfBoundsMessage 279 = .ok (.iconst 2, 1) := dk_5 (dk_at dksJ26_outOfBoundsMessage_11 15 rfl rfl)
theorem dJ26_outOfBoundsMessage_280 : decode cJ26_outOfBoundsMessage 280 = .ok (.istore 4, 2) := dk_54 4 (dk_at dksJ26_outOfBoundsMessage_11 16 rfl rfl)
theorem dJ26_outOfBoundsMessage_282 : decode cJ26_outOfBoundsMessage 282 = .ok (.iload 4, 2) := dk_21 4 (dk_at dksJ26_outOfBoundsMessage_11 18 rfl rfl)
theorem dJ26_outOfBoundsMessage_284 : decode cJ26_outOfBoundsMessage 284 = .ok (.tableswitch 138 0 2 #[28, 58, 98], 28) := by decide +kernel
theorem dJ26_outOfBoundsMessage_312 : decode cJ26_outOfBoundsMessage 312 = .ok (.ldc 83, 2) := dk_18 83 (dk_at dksJ26_outOfBoundsMessage_13 0 rfl rfl)
theorem dJ26_outOfBoundsMessage_314 : decode cJ26_outOfBoundsMessage 314 = .ok (.iconst 2, 1) := dk_5 (dk_at dksJ26_outOfBoundsMessage_13 2 rfl rfl)
theorem dJ26_outOfBoundsMessage_315 : decode cJ26_outOfBoundsMessage 315 = .ok (.anewarray 2, 3) := dk_189 0 2 (dk_at dksJ26_outOfBoundsMessage_13 3 rfl rfl)
theorem dJ26_outOfBoundsMessage_318 : decode cJ26_outOfBoundsMessage 318 = .ok (.dup, 1) := dk_89 (dk_at dksJ26_outOfBoundsMessage_13 6 rfl rfl)
theorem dJ26_outOfBoundsMessage_319 : decode cJ26_outOfBoundsMessage 319 = .ok (.iconst 0, 1) := dk_3 (dk_at dksJ26_outOfBoundsMessage_13 7 rfl rfl)
theorem dJ26_outOfBoundsMessage_320 : decode cJ26_outOfBoundsMessage 320 = .ok (.aload_n 1, 1) := dk_43 (dk_at dksJ26_outOfBoundsMessage_13 8 rfl rfl)
theorem dJ26_outOfBoundsMessage_321 : decode cJ26_outOfBoundsMessage 321 = .ok (.iconst 0, 1) := dk_3 (dk_at dksJ26_outOfBoundsMessage_13 9 rfl rfl)
theorem dJ26_outOfBoundsMessage_322 : decode cJ26_outOfBoundsMessage 322 = .ok (.invokeinterface 85 2, 5) := by decide +kernel
theorem dJ26_outOfBoundsMessage_327 : decode cJ26_outOfBoundsMessage 327 = .ok (.aastore, 1) := dk_83 (dk_at dksJ26_outOfBoundsMessage_13 15 rfl rfl)
theorem dJ26_outOfBoundsMessage_328 : decode cJ26_outOfBoundsMessage 328 = .ok (.dup, 1) := dk_89 (dk_at dksJ26_outOfBoundsMessage_13 16 rfl rfl)
theorem dJ26_outOfBoundsMessage_329 : decode cJ26_outOfBoundsMessage 329 = .ok (.iconst 1, 1) := dk_4 (dk_at dksJ26_outOfBoundsMessage_13 17 rfl rfl)
theorem dJ26_outOfBoundsMessage_330 : decode cJ26_outOfBoundsMessage 330 = .ok (.aload_n 1, 1) := dk_43 (dk_at dksJ26_outOfBoundsMessage_13 18 rfl rfl)
theorem dJ26_outOfBoundsMessage_331 : decode cJ26_outOfBoundsMessage 331 = .ok (.iconst 1, 1) := dk_4 (dk_at dksJ26_outOfBoundsMessage_13 19 rfl rfl)
theorem dJ26_outOfBoundsMessage_332 : decode cJ26_outOfBoundsMessage 332 = .ok (.invokeinterface 85 2, 5) := by decide +kernel
theorem dJ26_outOfBoundsMessage_337 : decode cJ26_outOfBoundsMessage 337 = .ok (.aastore, 1) := dk_83 (dk_at dksJ26_outOfBoundsMessage_14 5 rfl rfl)
theorem dJ26_outOfBoundsMessage_338 : decode cJ26_outOfBoundsMessage 338 = .ok (.invokestatic 62, 3) := dk_184 0 62 (dk_at dksJ26_outOfBoundsMessage_14 6 rfl rfl)
theorem dJ26_outOfBoundsMessage_341 : decode cJ26_outOfBoundsMessage 341 = .ok (.areturn, 1) := dk_176 (dk_at dksJ26_outOfBoundsMessage_14 9 rfl rfl)
theorem dJ26_outOfBoundsMessage_342 : decode cJ26_outOfBoundsMessage 342 = .ok (.ldc 89, 2) := dk_18 89 (dk_at dksJ26_outOfBoundsMessage_14 10 rfl rfl)
theorem dJ26_outOfBoundsMessage_344 : decode cJ26_outOfBoundsMessage 344 = .ok (.iconst 3, 1) := dk_6 (dk_at dksJ26_outOfBoundsMessage_14 12 rfl rfl)
theorem dJ26_outOfBoundsMessage_345 : decode cJ26_outOfBoundsMessage 345 = .ok (.anewarray 2, 3) := dk_189 0 2 (dk_at dksJ26_outOfBoundsMessage_14 13 rfl rfl)
theorem dJ26_outOfBoundsMessage_348 : decode cJ26_outOfBoundsMessage 348 = .ok (.dup, 1) := dk_89 (dk_at dksJ26_outOfBoundsMessage_14 16 rfl rfl)
theorem dJ26_outOfBoundsMessage_349 : decode cJ26_outOfBoundsMessage 349 = .ok (.iconst 0, 1) := dk_3 (dk_at dksJ26_outOfBoundsMessage_14 17 rfl rfl)
theorem dJ26_outOfBoundsMessage_350 : decode cJ26_outOfBoundsMessage 350 = .ok (.aload_n 1, 1) := dk_43 (dk_at dksJ26_outOfBoundsMessage_14 18 rfl rfl)
theorem dJ26_outOfBoundsMessage_351 : decode cJ26_outOfBoundsMessage 351 = .ok (.iconst 0, 1) := dk_3 (dk_at dksJ26_outOfBoundsMessage_14 19 rfl rfl)
theorem dJ26_outOfBoundsMessage_352 : decode cJ26_outOfBoundsMessage 352 = .ok (.invokeinterface 85 2, 5) := by decide +kernel
theorem dJ26_outOfBoundsMessage_357 : decode cJ26_outOfBoundsMessage 357 = .ok (.aastore, 1) := dk_83 (dk_at dksJ26_outOfBoundsMessage_15 5 rfl rfl)
theorem dJ26_outOfBoundsMessage_358 : decode cJ26_outOfBoundsMessage 358 = .ok (.dup, 1) := dk_89 (dk_at dksJ26_outOfBoundsMessage_15 6 rfl rfl)
theorem dJ26_outOfBoundsMessage_359 : decode cJ26_outOfBoundsMessage 359 = .ok (.iconst 1, 1) := dk_4 (dk_at dksJ26_outOfBoundsMessage_15 7 rfl rfl)
theorem dJ26_outOfBoundsMessage_360 : decode cJ26_outOfBoundsMessage 360 = .ok (.aload_n 1, 1) := dk_43 (dk_at dksJ26_outOfBoundsMessage_15 8 rfl rfl)
theorem dJ26_outOfBoundsMessage_361 : decode cJ26_outOfBoundsMessage 361 = .ok (.iconst 1, 1) := dk_4 (dk_at dksJ26_outOfBoundsMessage_15 9 rfl rfl)
theorem dJ26_outOfBoundsMessage_362 : decode cJ26_outOfBoundsMessage 362 = .ok (.invokeinterface 85 2, 5) := by decide +kernel
theorem dJ26_outOfBoundsMessage_367 : decode cJ26_outOfBoundsMessage 367 = .ok (.aastore, 1) := dk_83 (dk_at dksJ26_outOfBoundsMessage_15 15 rfl rfl)
theorem dJ26_outOfBoundsMessage_368 : decode cJ26_outOfBoundsMessage 368 = .ok (.dup, 1) := dk_89 (dk_at dksJ26_outOfBoundsMessage_15 16 rfl rfl)
theorem dJ26_outOfBoundsMessage_369 : decode cJ26_outOfBoundsMessage 369 = .ok (.iconst 2, 1) := dk_5 (dk_at dksJ26_outOfBoundsMessage_15 17 rfl rfl)
theorem dJ26_outOfBoundsMessage_370 : decode cJ26_outOfBoundsMessage 370 = .ok (.aload_n 1, 1) := dk_43 (dk_at dksJ26_outOfBoundsMessage_15 18 rfl rfl)
theorem dJ26_outOfBoundsMessage_371 : decode cJ26_outOfBoundsMessage 371 = .ok (.iconst 2, 1) := dk_5 (dk_at dksJ26_outOfBoundsMessage_15 19 rfl rfl)
theorem dJ26_outOfBoundsMessage_372 : decode cJ26_outOfBoundsMessage 372 = .ok (.invokeinterface 85 2, 5) := by decide +kernel
theorem dJ26_outOfBoundsMessage_377 : decode cJ26_outOfBoundsMessage 377 = .ok (.aastore, 1) := dk_83 (dk_at dksJ26_outOfBoundsMessage_16 5 rfl rfl)
theorem dJ26_outOfBoundsMessage_378 : decode cJ26_outOfBoundsMessage 378 = .ok (.invokestatic 62, 3) := dk_184 0 62 (dk_at dksJ26_outOfBoundsMessage_16 6 rfl rfl)
theorem dJ26_outOfBoundsMessage_381 : decode cJ26_outOfBoundsMessage 381 = .ok (.areturn, 1) := dk_176 (dk_at dksJ26_outOfBoundsMessage_16 9 rfl rfl)
theorem dJ26_outOfBoundsMessage_382 : decode cJ26_outOfBoundsMessage 382 = .ok (.ldc 91, 2) := dk_18 91 (dk_at dksJ26_outOfBoundsMessage_16 10 rfl rfl)
theorem dJ26_outOfBoundsMessage_384 : decode cJ26_outOfBoundsMessage 384 = .ok (.iconst 3, 1) := dk_6 (dk_at dksJ26_outOfBoundsMessage_16 12 rfl rfl)
theorem dJ26_outOfBoundsMessage_385 : decode cJ26_outOfBoundsMessage 385 = .ok (.anewarray 2, 3) := dk_189 0 2 (dk_at dksJ26_outOfBoundsMessage_16 13 rfl rfl)
theorem dJ26_outOfBoundsMessage_388 : decode cJ26_outOfBoundsMessage 388 = .ok (.dup, 1) := dk_89 (dk_at dksJ26_outOfBoundsMessage_16 16 rfl rfl)
theorem dJ26_outOfBoundsMessage_389 : decode cJ26_outOfBoundsMessage 389 = .ok (.iconst 0, 1) := dk_3 (dk_at dksJ26_outOfBoundsMessage_16 17 rfl rfl)
theorem dJ26_outOfBoundsMessage_390 : decode cJ26_outOfBoundsMessage 390 = .ok (.aload_n 1, 1) := dk_43 (dk_at dksJ26_outOfBoundsMessage_16 18 rfl rfl)
theorem dJ26_outOfBoundsMessage_391 : decode cJ26_outOfBoundsMessage 391 = .ok (.iconst 0, 1) := dk_3 (dk_at dksJ26_outOfBoundsMessage_16 19 rfl rfl)
theorem dJ26_outOfBoundsMessage_392 : decode cJ26_outOfBoundsMessage 392 = .ok (.invokeinterface 85 2, 5) := by decide +kernel
theorem dJ26_outOfBoundsMessage_397 : decode cJ26_outOfBoundsMessage 397 = .ok (.aastore, 1) := dk_83 (dk_at dksJ26_outOfBoundsMessage_17 5 rfl rfl)
theorem dJ26_outOfBoundsMessage_398 : decode cJ26_outOfBoundsMessage 398 = .ok (.dup, 1) := dk_89 (dk_at dksJ26_outOfBoundsMessage_17 6 rfl rfl)
theorem dJ26_outOfBoundsMessage_399 : decode cJ26_outOfBoundsMessage 399 = .ok (.iconst 1, 1) := dk_4 (dk_at dksJ26_outOfBoundsMessage_17 7 rfl rfl)
theorem dJ26_outOfBoundsMessage_400 : decode cJ26_outOfBoundsMessage 400 = .ok (.aload_n 1, 1) := dk_43 (dk_at dksJ26_outOfBoundsMessage_17 8 rfl rfl)
theorem dJ26_outOfBoundsMessage_401 : decode cJ26_outOfBoundsMessage 401 = .ok (.iconst 1, 1) := dk_4 (dk_at dksJ26_outOfBoundsMessage_17 9 rfl rfl)
theorem dJ26_outOfBoundsMessage_402 : decode cJ26_outOfBoundsMessage 402 = .ok (.invokeinterface 85 2, 5) := by decide +kernel
theorem dJ26_outOfBoundsMessage_407 : decode cJ26_outOfBoundsMessage 407 = .ok (.aastore, 1) := dk_83 (dk_at dksJ26_outOfBoundsMessage_17 15 rfl rfl)
theorem dJ26_outOfBoundsMessage_408 : decode cJ26_outOfBoundsMessage 408 = .ok (.dup, 1) := dk_89 (dk_at dksJ26_outOfBoundsMessage_17 16 rfl rfl)
theorem dJ26_outOfBoundsMessage_409 : decode cJ26_outOfBoundsMessage 409 = .ok (.iconst 2, 1) := dk_5 (dk_at dksJ26_outOfBoundsMessage_17 17 rfl rfl)
theorem dJ26_outOfBoundsMessage_410 : decode cJ26_outOfBoundsMessage 410 = .ok (.aload_n 1, 1) := dk_43 (dk_at dksJ26_outOfBoundsMessage_17 18 rfl rfl)
theorem dJ26_outOfBoundsMessage_411 : decode cJ26_outOfBoundsMessage 411 = .ok (.iconst 2, 1) := dk_5 (dk_at dksJ26_outOfBoundsMessage_17 19 rfl rfl)
theorem dJ26_outOfBoundsMessage_412 : decode cJ26_outOfBoundsMessage 412 = .ok (.invokeinterface 85 2, 5) := by decide +kernel
theorem dJ26_outOfBoundsMessage_417 : decode cJ26_outOfBoundsMessage 417 = .ok (.aastore, 1) := dk_83 (dk_at dksJ26_outOfBoundsMessage_18 5 rfl rfl)
theorem dJ26_outOfBoundsMessage_418 : decode cJ26_outOfBoundsMessage 418 = .ok (.invokestatic 62, 3) := dk_184 0 62 (dk_at dksJ26_outOfBoundsMessage_18 6 rfl rfl)
theorem dJ26_outOfBoundsMessage_421 : decode cJ26_outOfBoundsMessage 421 = .ok (.areturn, 1) := dk_176 (dk_at dksJ26_outOfBoundsMessage_18 9 rfl rfl)
theorem dJ26_outOfBoundsMessage_422 : decode cJ26_outOfBoundsMessage 422 = .ok (.ldc 93, 2) := dk_18 93 (dk_at dksJ26_outOfBoundsMessage_18 10 rfl rfl)
theorem dJ26_outOfBoundsMessage_424 : decode cJ26_outOfBoundsMessage 424 = .ok (.iconst 2, 1) := dk_5 (dk_at dksJ26_outOfBoundsMessage_18 12 rfl rfl)
theorem dJ26_outOfBoundsMessage_425 : decode cJ26_outOfBoundsMessage 425 = .ok (.anewarray 2, 3) := dk_189 0 2 (dk_at dksJ26_outOfBoundsMessage_18 13 rfl rfl)
theorem dJ26_outOfBoundsMessage_428 : decode cJ26_outOfBoundsMessage 428 = .ok (.dup, 1) := dk_89 (dk_at dksJ26_outOfBoundsMessage_18 16 rfl rfl)
theorem dJ26_outOfBoundsMessage_429 : decode cJ26_outOfBoundsMessage 429 = .ok (.iconst 0, 1) := dk_3 (dk_at dksJ26_outOfBoundsMessage_18 17 rfl rfl)
theorem dJ26_outOfBoundsMessage_430 : decode cJ26_outOfBoundsMessage 430 = .ok (.aload_n 0, 1) := dk_42 (dk_at dksJ26_outOfBoundsMessage_18 18 rfl rfl)
theorem dJ26_outOfBoundsMessage_431 : decode cJ26_outOfBoundsMessage 431 = .ok (.aastore, 1) := dk_83 (dk_at dksJ26_outOfBoundsMessage_18 19 rfl rfl)
theorem dJ26_outOfBoundsMessage_432 : decode cJ26_outOfBoundsMessage 432 = .ok (.dup, 1) := dk_89 (dk_at dksJ26_outOfBoundsMessage_18 20 rfl rfl)
theorem dJ26_outOfBoundsMessage_433 : decode cJ26_outOfBoundsMessage 433 = .ok (.iconst 1, 1) := dk_4 (dk_at dksJ26_outOfBoundsMessage_18 21 rfl rfl)
theorem dJ26_outOfBoundsMessage_434 : decode cJ26_outOfBoundsMessage 434 = .ok (.aload_n 1, 1) := dk_43 (dk_at dksJ26_outOfBoundsMessage_18 22 rfl rfl)
theorem dJ26_outOfBoundsMessage_435 : decode cJ26_outOfBoundsMessage 435 = .ok (.aastore, 1) := dk_83 (dk_at dksJ26_outOfBoundsMessage_18 23 rfl rfl)
theorem dJ26_outOfBoundsMessage_436 : decode cJ26_outOfBoundsMessage 436 = .ok (.invokestatic 62, 3) := dk_184 0 62 (dk_at dksJ26_outOfBoundsMessage_19 0 rfl rfl)
theorem dJ26_outOfBoundsMessage_439 : decode cJ26_outOfBoundsMessage 439 = .ok (.areturn, 1) := dk_176 (dk_at dksJ26_outOfBoundsMessage_19 3 rfl rfl)
abbrev cJ26_checkFromIndexSize : ByteArray := prog_76_method_13_code
def yJ26_checkFromIndexSize : MethodName := ⟨RJ26, "checkFromIndexSize", "(IIILjava/util/function/BiFunction;)I"⟩
def dkwJ26_checkFromIndexSize_1 : List UInt8 := [172]
abbrev dktJ26_checkFromIndexSize_1 : List UInt8 := dkwJ26_checkFromIndexSize_1 ++ []
def dkwJ26_checkFromIndexSize_0 : List UInt8 := [28, 26, 128, 27, 128, 155, 0, 10, 27, 28, 26, 100, 164, 0, 11, 45, 26, 27, 28, 184, 0, 103, 191, 26]
abbrev dktJ26_checkFromIndexSize_0 : List UInt8 := dkwJ26_checkFromIndexSize_0 ++ dktJ26_checkFromIndexSize_1
theorem dksJ26_checkFromIndexSize_0 : cJ26_checkFromIndexSize.data.toList.drop 0 = dktJ26_checkFromIndexSize_0 := by decide +kernel
theorem dksJ26_checkFromIndexSize_1 : cJ26_checkFromIndexSize.data.toList.drop 24 = dktJ26_checkFromIndexSize_1 := dk_seg dksJ26_checkFromIndexSize_0 24 rfl rfl
theorem dJ26_checkFromIndexSize_0 : decode cJ26_checkFromIndexSize 0 = .ok (.iload_n 2, 1) := dk_28 (dk_at dksJ26_checkFromIndexSize_0 0 rfl rfl)
theorem dJ26_checkFromIndexSize_1 : decode cJ26_checkFromIndexSize 1 = .ok (.iload_n 0, 1) := dk_26 (dk_at dksJ26_checkFromIndexSize_0 1 rfl rfl)
theorem dJ26_checkFromIndexSize_2 : decode cJ26_checkFromIndexSize 2 = .ok (.ior, 1) := dk_128 (dk_at dksJ26_checkFromIndexSize_0 2 rfl rfl)
theorem dJ26_checkFromIndexSize_3 : decode cJ26_checkFromIndexSize 3 = .ok (.iload_n 1, 1) := dk_27 (dk_at dksJ26_checkFromIndexSize_0 3 rfl rfl)
theorem dJ26_checkFromIndexSize_4 : decode cJ26_checkFromIndexSize 4 = .ok (.ior, 1) := dk_128 (dk_at dksJ26_checkFromIndexSize_0 4 rfl rfl)
theorem dJ26_checkFromIndexSize_5 : decode cJ26_checkFromIndexSize 5 = .ok (.ifCond .lt 10, 3) := dk_155 0 10 (dk_at dksJ26_checkFromIndexSize_0 5 rfl rfl)
theorem dJ26_checkFromIndexSize_8 : decode cJ26_checkFromIndexSize 8 = .ok (.iload_n 1, 1) := dk_27 (dk_at dksJ26_checkFromIndexSize_0 8 rfl rfl)
theorem dJ26_checkFromIndexSize_9 : decode cJ26_checkFromIndexSize 9 = .ok (.iload_n 2, 1) := dk_28 (dk_at dksJ26_checkFromIndexSize_0 9 rfl rfl)
theorem dJ26_checkFromIndexSize_10 : decode cJ26_checkFromIndexSize 10 = .ok (.iload_n 0, 1) := dk_26 (dk_at dksJ26_checkFromIndexSize_0 10 rfl rfl)
theorem dJ26_checkFromIndexSize_11 : decode cJ26_checkFromIndexSize 11 = .ok (.isub, 1) := dk_100 (dk_at dksJ26_checkFromIndexSize_0 11 rfl rfl)
theorem dJ26_checkFromIndexSize_12 : decode cJ26_checkFromIndexSize 12 = .ok (.if_icmp .le 11, 3) := dk_164 0 11 (dk_at dksJ26_checkFromIndexSize_0 12 rfl rfl)
theorem dJ26_checkFromIndexSize_15 : decode cJ26_checkFromIndexSize 15 = .ok (.aload_n 3, 1) := dk_45 (dk_at dksJ26_checkFromIndexSize_0 15 rfl rfl)
theorem dJ26_checkFromIndexSize_16 : decode cJ26_checkFromIndexSize 16 = .ok (.iload_n 0, 1) := dk_26 (dk_at dksJ26_checkFromIndexSize_0 16 rfl rfl)
theorem dJ26_checkFromIndexSize_17 : decode cJ26_checkFromIndexSize 17 = .ok (.iload_n 1, 1) := dk_27 (dk_at dksJ26_checkFromIndexSize_0 17 rfl rfl)
theorem dJ26_checkFromIndexSize_18 : decode cJ26_checkFromIndexSize 18 = .ok (.iload_n 2, 1) := dk_28 (dk_at dksJ26_checkFromIndexSize_0 18 rfl rfl)
theorem dJ26_checkFromIndexSize_19 : decode cJ26_checkFromIndexSize 19 = .ok (.invokestatic 103, 3) := dk_184 0 103 (dk_at dksJ26_checkFromIndexSize_0 19 rfl rfl)
theorem dJ26_checkFromIndexSize_22 : decode cJ26_checkFromIndexSize 22 = .ok (.athrow, 1) := dk_191 (dk_at dksJ26_checkFromIndexSize_0 22 rfl rfl)
theorem dJ26_checkFromIndexSize_23 : decode cJ26_checkFromIndexSize 23 = .ok (.iload_n 0, 1) := dk_26 (dk_at dksJ26_checkFromIndexSize_0 23 rfl rfl)
theorem dJ26_checkFromIndexSize_24 : decode cJ26_checkFromIndexSize 24 = .ok (.ireturn, 1) := dk_172 (dk_at dksJ26_checkFromIndexSize_1 0 rfl rfl)
abbrev cJ26_outOfBoundsCheckFromIndexSize : ByteArray := prog_76_method_5_code
def yJ26_outOfBoundsCheckFromIndexSize : MethodName := ⟨RJ26, "outOfBoundsCheckFromIndexSize", "(Ljava/util/function/BiFunction;III)Ljava/lang/RuntimeException;"⟩
def dkwJ26_outOfBoundsCheckFromIndexSize_1 : List UInt8 := [184, 0, 36, 83, 184, 0, 42, 176]
abbrev dktJ26_outOfBoundsCheckFromIndexSize_1 : List UInt8 := dkwJ26_outOfBoundsCheckFromIndexSize_1 ++ []
def dkwJ26_outOfBoundsCheckFromIndexSize_0 : List UInt8 := [42, 18, 48, 6, 189, 0, 34, 89, 3, 27, 184, 0, 36, 83, 89, 4, 28, 184, 0, 36, 83, 89, 5, 29]
abbrev dktJ26_outOfBoundsCheckFromIndexSize_0 : List UInt8 := dkwJ26_outOfBoundsCheckFromIndexSize_0 ++ dktJ26_outOfBoundsCheckFromIndexSize_1
theorem dksJ26_outOfBoundsCheckFromIndexSize_0 : cJ26_outOfBoundsCheckFromIndexSize.data.toList.drop 0 = dktJ26_outOfBoundsCheckFromIndexSize_0 := by decide +kernel
theorem dksJ26_outOfBoundsCheckFromIndexSize_1 : cJ26_outOfBoundsCheckFromIndexSize.data.toList.drop 24 = dktJ26_outOfBoundsCheckFromIndexSize_1 := dk_seg dksJ26_outOfBoundsCheckFromIndexSize_0 24 rfl rfl
theorem dJ26_outOfBoundsCheckFromIndexSize_0 : decode cJ26_outOfBoundsCheckFromIndexSize 0 = .ok (.aload_n 0, 1) := dk_42 (dk_at dksJ26_outOfBoundsCheckFromIndexSize_0 0 rfl rfl)
theorem dJ26_outOfBoundsCheckFromIndexSize_1 : decode cJ26_outOfBoundsCheckFromIndexSize 1 = .ok (.ldc 48, 2) := dk_18 48 (dk_at dksJ26_outOfBoundsCheckFromIndexSize_0 1 rfl rfl)
theorem dJ26_outOfBoundsCheckFromIndexSize_3 : decode cJ26_outOfBoundsCheckFromIndexSize 3 = .ok (.iconst 3, 1) := dk_6 (dk_at dksJ26_outOfBoundsCheckFromIndexSize_0 3 rfl rfl)
theorem dJ26_outOfBoundsCheckFromIndexSize_4 : decode cJ26_outOfBoundsCheckFromIndexSize 4 = .ok (.anewarray 34, 3) := dk_189 0 34 (dk_at dksJ26_outOfBoundsCheckFromIndexSize_0 4 rfl rfl)
theorem dJ26_outOfBoundsCheckFromIndexSize_7 : decode cJ26_outOfBoundsCheckFromIndexSize 7 = .ok (.dup, 1) := dk_89 (dk_at dksJ26_outOfBoundsCheckFromIndexSize_0 7 rfl rfl)
theorem dJ26_outOfBoundsCheckFromIndexSize_8 : decode cJ26_outOfBoundsCheckFromIndexSize 8 = .ok (.iconst 0, 1) := dk_3 (dk_at dksJ26_outOfBoundsCheckFromIndexSize_0 8 rfl rfl)
theorem dJ26_outOfBoundsCheckFromIndexSize_9 : decode cJ26_outOfBoundsCheckFromIndexSize 9 = .ok (.iload_n 1, 1) := dk_27 (dk_at dksJ26_outOfBoundsCheckFromIndexSize_0 9 rfl rfl)
theorem dJ26_outOfBoundsCheckFromIndexSize_10 : decode cJ26_outOfBoundsCheckFromIndexSize 10 = .ok (.invokestatic 36, 3) := dk_184 0 36 (dk_at dksJ26_outOfBoundsCheckFromIndexSize_0 10 rfl rfl)
theorem dJ26_outOfBoundsCheckFromIndexSize_13 : decode cJ26_outOfBoundsCheckFromIndexSize 13 = .ok (.aastore, 1) := dk_83 (dk_at dksJ26_outOfBoundsCheckFromIndexSize_0 13 rfl rfl)
theorem dJ26_outOfBoundsCheckFromIndexSize_14 : decode cJ26_outOfBoundsCheckFromIndexSize 14 = .ok (.dup, 1) := dk_89 (dk_at dksJ26_outOfBoundsCheckFromIndexSize_0 14 rfl rfl)
theorem dJ26_outOfBoundsCheckFromIndexSize_15 : decode cJ26_outOfBoundsCheckFromIndexSize 15 = .ok (.iconst 1, 1) := dk_4 (dk_at dksJ26_outOfBoundsCheckFromIndexSize_0 15 rfl rfl)
theorem dJ26_outOfBoundsCheckFromIndexSize_16 : decode cJ26_outOfBoundsCheckFromIndexSize 16 = .ok (.iload_n 2, 1) := dk_28 (dk_at dksJ26_outOfBoundsCheckFromIndexSize_0 16 rfl rfl)
theorem dJ26_outOfBoundsCheckFromIndexSize_17 : decode cJ26_outOfBoundsCheckFromIndexSize 17 = .ok (.invokestatic 36, 3) := dk_184 0 36 (dk_at dksJ26_outOfBoundsCheckFromIndexSize_0 17 rfl rfl)
theorem dJ26_outOfBoundsCheckFromIndexSize_20 : decode cJ26_outOfBoundsCheckFromIndexSize 20 = .ok (.aastore, 1) := dk_83 (dk_at dksJ26_outOfBoundsCheckFromIndexSize_0 20 rfl rfl)
theorem dJ26_outOfBoundsCheckFromIndexSize_21 : decode cJ26_outOfBoundsCheckFromIndexSize 21 = .ok (.dup, 1) := dk_89 (dk_at dksJ26_outOfBoundsCheckFromIndexSize_0 21 rfl rfl)
theorem dJ26_outOfBoundsCheckFromIndexSize_22 : decode cJ26_outOfBoundsCheckFromIndexSize 22 = .ok (.iconst 2, 1) := dk_5 (dk_at dksJ26_outOfBoundsCheckFromIndexSize_0 22 rfl rfl)
theorem dJ26_outOfBoundsCheckFromIndexSize_23 : decode cJ26_outOfBoundsCheckFromIndexSize 23 = .ok (.iload_n 3, 1) := dk_29 (dk_at dksJ26_outOfBoundsCheckFromIndexSize_0 23 rfl rfl)
theorem dJ26_outOfBoundsCheckFromIndexSize_24 : decode cJ26_outOfBoundsCheckFromIndexSize 24 = .ok (.invokestatic 36, 3) := dk_184 0 36 (dk_at dksJ26_outOfBoundsCheckFromIndexSize_1 0 rfl rfl)
theorem dJ26_outOfBoundsCheckFromIndexSize_27 : decode cJ26_outOfBoundsCheckFromIndexSize 27 = .ok (.aastore, 1) := dk_83 (dk_at dksJ26_outOfBoundsCheckFromIndexSize_1 3 rfl rfl)
theorem dJ26_outOfBoundsCheckFromIndexSize_28 : decode cJ26_outOfBoundsCheckFromIndexSize 28 = .ok (.invokestatic 42, 3) := dk_184 0 42 (dk_at dksJ26_outOfBoundsCheckFromIndexSize_1 4 rfl rfl)
theorem dJ26_outOfBoundsCheckFromIndexSize_31 : decode cJ26_outOfBoundsCheckFromIndexSize 31 = .ok (.areturn, 1) := dk_176 (dk_at dksJ26_outOfBoundsCheckFromIndexSize_1 7 rfl rfl)
abbrev cJ26_checkIndex : ByteArray := prog_76_method_11_code
def yJ26_checkIndex : MethodName := ⟨RJ26, "checkIndex", "(IILjava/util/function/BiFunction;)I"⟩
def dkwJ26_checkIndex_0 : List UInt8 := [26, 155, 0, 8, 26, 27, 161, 0, 10, 44, 26, 27, 184, 0, 95, 191, 26, 172]
abbrev dktJ26_checkIndex_0 : List UInt8 := dkwJ26_checkIndex_0 ++ []
theorem dksJ26_checkIndex_0 : cJ26_checkIndex.data.toList.drop 0 = dktJ26_checkIndex_0 := by decide +kernel
theorem dJ26_checkIndex_0 : decode cJ26_checkIndex 0 = .ok (.iload_n 0, 1) := dk_26 (dk_at dksJ26_checkIndex_0 0 rfl rfl)
theorem dJ26_checkIndex_1 : decode cJ26_checkIndex 1 = .ok (.ifCond .lt 8, 3) := dk_155 0 8 (dk_at dksJ26_checkIndex_0 1 rfl rfl)
theorem dJ26_checkIndex_4 : decode cJ26_checkIndex 4 = .ok (.iload_n 0, 1) := dk_26 (dk_at dksJ26_checkIndex_0 4 rfl rfl)
theorem dJ26_checkIndex_5 : decode cJ26_checkIndex 5 = .ok (.iload_n 1, 1) := dk_27 (dk_at dksJ26_checkIndex_0 5 rfl rfl)
theorem dJ26_checkIndex_6 : decode cJ26_checkIndex 6 = .ok (.if_icmp .lt 10, 3) := dk_161 0 10 (dk_at dksJ26_checkIndex_0 6 rfl rfl)
theorem dJ26_checkIndex_9 : decode cJ26_checkIndex 9 = .ok (.aload_n 2, 1) := dk_44 (dk_at dksJ26_checkIndex_0 9 rfl rfl)
theorem dJ26_checkIndex_10 : decode cJ26_checkIndex 10 = .ok (.iload_n 0, 1) := dk_26 (dk_at dksJ26_checkIndex_0 10 rfl rfl)
theorem dJ26_checkIndex_11 : decode cJ26_checkIndex 11 = .ok (.iload_n 1, 1) := dk_27 (dk_at dksJ26_checkIndex_0 11 rfl rfl)
theorem dJ26_checkIndex_12 : decode cJ26_checkIndex 12 = .ok (.invokestatic 95, 3) := dk_184 0 95 (dk_at dksJ26_checkIndex_0 12 rfl rfl)
theorem dJ26_checkIndex_15 : decode cJ26_checkIndex 15 = .ok (.athrow, 1) := dk_191 (dk_at dksJ26_checkIndex_0 15 rfl rfl)
theorem dJ26_checkIndex_16 : decode cJ26_checkIndex 16 = .ok (.iload_n 0, 1) := dk_26 (dk_at dksJ26_checkIndex_0 16 rfl rfl)
theorem dJ26_checkIndex_17 : decode cJ26_checkIndex 17 = .ok (.ireturn, 1) := dk_172 (dk_at dksJ26_checkIndex_0 17 rfl rfl)
abbrev cJ26_outOfBoundsCheckIndex : ByteArray := prog_76_method_3_code
def yJ26_outOfBoundsCheckIndex : MethodName := ⟨RJ26, "outOfBoundsCheckIndex", "(Ljava/util/function/BiFunction;II)Ljava/lang/RuntimeException;"⟩
def dkwJ26_outOfBoundsCheckIndex_1 : List UInt8 := [176]
abbrev dktJ26_outOfBoundsCheckIndex_1 : List UInt8 := dkwJ26_outOfBoundsCheckIndex_1 ++ []
def dkwJ26_outOfBoundsCheckIndex_0 : List UInt8 := [42, 18, 32, 5, 189, 0, 34, 89, 3, 27, 184, 0, 36, 83, 89, 4, 28, 184, 0, 36, 83, 184, 0, 42]
abbrev dktJ26_outOfBoundsCheckIndex_0 : List UInt8 := dkwJ26_outOfBoundsCheckIndex_0 ++ dktJ26_outOfBoundsCheckIndex_1
theorem dksJ26_outOfBoundsCheckIndex_0 : cJ26_outOfBoundsCheckIndex.data.toList.drop 0 = dktJ26_outOfBoundsCheckIndex_0 := by decide +kernel
theorem dksJ26_outOfBoundsCheckIndex_1 : cJ26_outOfBoundsCheckIndex.data.toList.drop 24 = dktJ26_outOfBoundsCheckIndex_1 := dk_seg dksJ26_outOfBoundsCheckIndex_0 24 rfl rfl
theorem dJ26_outOfBoundsCheckIndex_0 : decode cJ26_outOfBoundsCheckIndex 0 = .ok (.aload_n 0, 1) := dk_42 (dk_at dksJ26_outOfBoundsCheckIndex_0 0 rfl rfl)
theorem dJ26_outOfBoundsCheckIndex_1 : decode cJ26_outOfBoundsCheckIndex 1 = .ok (.ldc 32, 2) := dk_18 32 (dk_at dksJ26_outOfBoundsCheckIndex_0 1 rfl rfl)
theorem dJ26_outOfBoundsCheckIndex_3 : decode cJ26_outOfBoundsCheckIndex 3 = .ok (.iconst 2, 1) := dk_5 (dk_at dksJ26_outOfBoundsCheckIndex_0 3 rfl rfl)
theorem dJ26_outOfBoundsCheckIndex_4 : decode cJ26_outOfBoundsCheckIndex 4 = .ok (.anewarray 34, 3) := dk_189 0 34 (dk_at dksJ26_outOfBoundsCheckIndex_0 4 rfl rfl)
theorem dJ26_outOfBoundsCheckIndex_7 : decode cJ26_outOfBoundsCheckIndex 7 = .ok (.dup, 1) := dk_89 (dk_at dksJ26_outOfBoundsCheckIndex_0 7 rfl rfl)
theorem dJ26_outOfBoundsCheckIndex_8 : decode cJ26_outOfBoundsCheckIndex 8 = .ok (.iconst 0, 1) := dk_3 (dk_at dksJ26_outOfBoundsCheckIndex_0 8 rfl rfl)
theorem dJ26_outOfBoundsCheckIndex_9 : decode cJ26_outOfBoundsCheckIndex 9 = .ok (.iload_n 1, 1) := dk_27 (dk_at dksJ26_outOfBoundsCheckIndex_0 9 rfl rfl)
theorem dJ26_outOfBoundsCheckIndex_10 : decode cJ26_outOfBoundsCheckIndex 10 = .ok (.invokestatic 36, 3) := dk_184 0 36 (dk_at dksJ26_outOfBoundsCheckIndex_0 10 rfl rfl)
theorem dJ26_outOfBoundsCheckIndex_13 : decode cJ26_outOfBoundsCheckIndex 13 = .ok (.aastore, 1) := dk_83 (dk_at dksJ26_outOfBoundsCheckIndex_0 13 rfl rfl)
theorem dJ26_outOfBoundsCheckIndex_14 : decode cJ26_outOfBoundsCheckIndex 14 = .ok (.dup, 1) := dk_89 (dk_at dksJ26_outOfBoundsCheckIndex_0 14 rfl rfl)
theorem dJ26_outOfBoundsCheckIndex_15 : decode cJ26_outOfBoundsCheckIndex 15 = .ok (.iconst 1, 1) := dk_4 (dk_at dksJ26_outOfBoundsCheckIndex_0 15 rfl rfl)
theorem dJ26_outOfBoundsCheckIndex_16 : decode cJ26_outOfBoundsCheckIndex 16 = .ok (.iload_n 2, 1) := dk_28 (dk_at dksJ26_outOfBoundsCheckIndex_0 16 rfl rfl)
theorem dJ26_outOfBoundsCheckIndex_17 : decode cJ26_outOfBoundsCheckIndex 17 = .ok (.invokestatic 36, 3) := dk_184 0 36 (dk_at dksJ26_outOfBoundsCheckIndex_0 17 rfl rfl)
theorem dJ26_outOfBoundsCheckIndex_20 : decode cJ26_outOfBoundsCheckIndex 20 = .ok (.aastore, 1) := dk_83 (dk_at dksJ26_outOfBoundsCheckIndex_0 20 rfl rfl)
theorem dJ26_outOfBoundsCheckIndex_21 : decode cJ26_outOfBoundsCheckIndex 21 = .ok (.invokestatic 42, 3) := dk_184 0 42 (dk_at dksJ26_outOfBoundsCheckIndex_0 21 rfl rfl)
theorem dJ26_outOfBoundsCheckIndex_24 : decode cJ26_outOfBoundsCheckIndex 24 = .ok (.areturn, 1) := dk_176 (dk_at dksJ26_outOfBoundsCheckIndex_1 0 rfl rfl)
theorem q120 : (Jvm.Cond.initialized "jdk/internal/util/Preconditions") ∈ lw_all := lw_g (lw_at lw_m1 37 rfl) rfl
theorem q905 : (Jvm.Cond.laysStatic "jdk/internal/util/Preconditions" "SIOOBE_FORMATTER" "Ljava/util/function/BiFunction;") ∈ lw_tbl := lw_at lw_m4 102 rfl
theorem q907 : (Jvm.Cond.static ({ cls := "jdk/internal/util/Preconditions", name := "checkFromToIndex", desc := "(IIILjava/util/function/BiFunction;)I" } : Jvm.MethodName)) ∈ lw_all := lw_g (lw_at lw_m4 104 rfl) rfl
theorem q908 : (Jvm.Cond.code ({ cls := "jdk/internal/util/Preconditions", name := "checkFromToIndex", desc := "(IIILjava/util/function/BiFunction;)I" } : Jvm.MethodName) prog_76_method_12_code (4 : Nat) (Option.some Jvm.ClassFile.FieldType.int)) ∈ lw_all := lw_g (lw_at lw_m4 105 rfl) rfl
theorem q909 : (Jvm.Cond.methodLink "jdk/internal/util/Preconditions" (99 : Nat) ({ cls := "jdk/internal/util/Preconditions", name := "outOfBoundsCheckFromToIndex", desc := "(Ljava/util/function/BiFunction;III)Ljava/lang/RuntimeException;" } : Jvm.MethodName)) ∈ lw_all := lw_g (lw_at lw_m4 106 rfl) rfl
theorem q910 : (Jvm.Cond.static ({ cls := "jdk/internal/util/Preconditions", name := "outOfBoundsCheckFromToIndex", desc := "(Ljava/util/function/BiFunction;III)Ljava/lang/RuntimeException;" } : Jvm.MethodName)) ∈ lw_all := lw_g (lw_at lw_m4 107 rfl) rfl
theorem q911 : (Jvm.Cond.code ({ cls := "jdk/internal/util/Preconditions", name := "outOfBoundsCheckFromToIndex", desc := "(Ljava/util/function/BiFunction;III)Ljava/lang/RuntimeException;" } : Jvm.MethodName) prog_76_method_4_code (4 : Nat) (Option.some (Jvm.ClassFile.FieldType.object "java/lang/RuntimeException"))) ∈ lw_all := lw_g (lw_at lw_m4 108 rfl) rfl
theorem q912 : (Jvm.Cond.stringRef "jdk/internal/util/Preconditions" (46 : Nat) "checkFromToIndex") ∈ lw_tbl := lw_at lw_m4 109 rfl
theorem q913 : (Jvm.Cond.classLink "jdk/internal/util/Preconditions" (34 : Nat) "java/lang/Number") ∈ lw_all := lw_g (lw_at lw_m4 110 rfl) rfl
theorem q915 : (Jvm.Cond.methodLink "jdk/internal/util/Preconditions" (36 : Nat) ({ cls := "java/lang/Integer", name := "valueOf", desc := "(I)Ljava/lang/Integer;" } : Jvm.MethodName)) ∈ lw_all := lw_g (lw_at lw_m4 112 rfl) rfl
theorem q935 : (Jvm.Cond.methodLink "jdk/internal/util/Preconditions" (42 : Nat) ({ cls := "jdk/internal/util/Preconditions", name := "outOfBounds", desc := "(Ljava/util/function/BiFunction;Ljava/lang/String;[Ljava/lang/Number;)Ljava/lang/RuntimeException;" } : Jvm.MethodName)) ∈ lw_all := lw_g (lw_at lw_m4 132 rfl) rfl
theorem q936 : (Jvm.Cond.static ({ cls := "jdk/internal/util/Preconditions", name := "outOfBounds", desc := "(Ljava/util/function/BiFunction;Ljava/lang/String;[Ljava/lang/Number;)Ljava/lang/RuntimeException;" } : Jvm.MethodName)) ∈ lw_all := lw_g (lw_at lw_m4 133 rfl) rfl
theorem q937 : (Jvm.Cond.code ({ cls := "jdk/internal/util/Preconditions", name := "outOfBounds", desc := "(Ljava/util/function/BiFunction;Ljava/lang/String;[Ljava/lang/Number;)Ljava/lang/RuntimeException;" } : Jvm.MethodName) prog_76_method_2_code (5 : Nat) (Option.some (Jvm.ClassFile.FieldType.object "java/lang/RuntimeException"))) ∈ lw_all := lw_g (lw_at lw_m4 134 rfl) rfl
theorem q938 : (Jvm.Cond.methodLink "jdk/internal/util/Preconditions" (7 : Nat) ({ cls := "java/util/List", name := "of", desc := "([Ljava/lang/Object;)Ljava/util/List;" } : Jvm.MethodName)) ∈ lw_all := lw_g (lw_at lw_m4 135 rfl) rfl
theorem q986 : (Jvm.Cond.interfaceEntry "jdk/internal/util/Preconditions" (13 : Nat)) ∈ lw_tbl := lw_at lw_m4 183 rfl
theorem q987 : (Jvm.Cond.methodLink "jdk/internal/util/Preconditions" (13 : Nat) ({ cls := "java/util/function/BiFunction", name := "apply", desc := "(Ljava/lang/Object;Ljava/lang/Object;)Ljava/lang/Object;" } : Jvm.MethodName)) ∈ lw_all := lw_g (lw_at lw_m4 184 rfl) rfl
theorem q990 : (Jvm.Cond.classLink "jdk/internal/util/Preconditions" (19 : Nat) "java/lang/RuntimeException") ∈ lw_all := lw_g (lw_at lw_m4 187 rfl) rfl
theorem q991 : (Jvm.Cond.classLink "jdk/internal/util/Preconditions" (21 : Nat) "java/lang/IndexOutOfBoundsException") ∈ lw_all := lw_g (lw_at lw_m4 188 rfl) rfl
theorem q1000 : (Jvm.Cond.methodLink "jdk/internal/util/Preconditions" (23 : Nat) ({ cls := "jdk/internal/util/Preconditions", name := "outOfBoundsMessage", desc := "(Ljava/lang/String;Ljava/util/List;)Ljava/lang/String;" } : Jvm.MethodName)) ∈ lw_all := lw_g (lw_at lw_m4 197 rfl) rfl
theorem q1001 : (Jvm.Cond.static ({ cls := "jdk/internal/util/Preconditions", name := "outOfBoundsMessage", desc := "(Ljava/lang/String;Ljava/util/List;)Ljava/lang/String;" } : Jvm.MethodName)) ∈ lw_all := lw_g (lw_at lw_m4 198 rfl) rfl
theorem q1002 : (Jvm.Cond.code ({ cls := "jdk/internal/util/Preconditions", name := "outOfBoundsMessage", desc := "(Ljava/lang/String;Ljava/util/List;)Ljava/lang/String;" } : Jvm.MethodName) prog_76_method_10_code (5 : Nat) (Option.some (Jvm.ClassFile.FieldType.object "java/lang/String"))) ∈ lw_all := lw_g (lw_at lw_m4 199 rfl) rfl
theorem q1003 : (Jvm.Cond.methodLink "jdk/internal/util/Preconditions" (29 : Nat) ({ cls := "java/lang/IndexOutOfBoundsException", name := "<init>", desc := "(Ljava/lang/String;)V" } : Jvm.MethodName)) ∈ lw_all := lw_g (lw_at lw_m4 200 rfl) rfl
theorem q1053 : (Jvm.Cond.static ({ cls := "jdk/internal/util/Preconditions", name := "checkFromIndexSize", desc := "(IIILjava/util/function/BiFunction;)I" } : Jvm.MethodName)) ∈ lw_all := lw_g (lw_at lw_m5 10 rfl) rfl
theorem q1054 : (Jvm.Cond.code ({ cls := "jdk/internal/util/Preconditions", name := "checkFromIndexSize", desc := "(IIILjava/util/function/BiFunction;)I" } : Jvm.MethodName) prog_76_method_13_code (4 : Nat) (Option.some Jvm.ClassFile.FieldType.int)) ∈ lw_all := lw_g (lw_at lw_m5 11 rfl) rfl
theorem q1055 : (Jvm.Cond.methodLink "jdk/internal/util/Preconditions" (103 : Nat) ({ cls := "jdk/internal/util/Preconditions", name := "outOfBoundsCheckFromIndexSize", desc := "(Ljava/util/function/BiFunction;III)Ljava/lang/RuntimeException;" } : Jvm.MethodName)) ∈ lw_all := lw_g (lw_at lw_m5 12 rfl) rfl
theorem q1056 : (Jvm.Cond.static ({ cls := "jdk/internal/util/Preconditions", name := "outOfBoundsCheckFromIndexSize", desc := "(Ljava/util/function/BiFunction;III)Ljava/lang/RuntimeException;" } : Jvm.MethodName)) ∈ lw_all := lw_g (lw_at lw_m5 13 rfl) rfl
theorem q1057 : (Jvm.Cond.code ({ cls := "jdk/internal/util/Preconditions", name := "outOfBoundsCheckFromIndexSize", desc := "(Ljava/util/function/BiFunction;III)Ljava/lang/RuntimeException;" } : Jvm.MethodName) prog_76_method_5_code (4 : Nat) (Option.some (Jvm.ClassFile.FieldType.object "java/lang/RuntimeException"))) ∈ lw_all := lw_g (lw_at lw_m5 14 rfl) rfl
theorem q1058 : (Jvm.Cond.stringRef "jdk/internal/util/Preconditions" (48 : Nat) "checkFromIndexSize") ∈ lw_tbl := lw_at lw_m5 15 rfl
theorem q1662 : (Jvm.Cond.static ({ cls := "jdk/internal/util/Preconditions", name := "checkIndex", desc := "(IILjava/util/function/BiFunction;)I" } : Jvm.MethodName)) ∈ lw_all := lw_g (lw_at lw_m7 139 rfl) rfl
theorem q1663 : (Jvm.Cond.code ({ cls := "jdk/internal/util/Preconditions", name := "checkIndex", desc := "(IILjava/util/function/BiFunction;)I" } : Jvm.MethodName) prog_76_method_11_code (3 : Nat) (Option.some Jvm.ClassFile.FieldType.int)) ∈ lw_all := lw_g (lw_at lw_m7 140 rfl) rfl
theorem q1664 : (Jvm.Cond.methodLink "jdk/internal/util/Preconditions" (95 : Nat) ({ cls := "jdk/internal/util/Preconditions", name := "outOfBoundsCheckIndex", desc := "(Ljava/util/function/BiFunction;II)Ljava/lang/RuntimeException;" } : Jvm.MethodName)) ∈ lw_all := lw_g (lw_at lw_m7 141 rfl) rfl
theorem q1665 : (Jvm.Cond.static ({ cls := "jdk/internal/util/Preconditions", name := "outOfBoundsCheckIndex", desc := "(Ljava/util/function/BiFunction;II)Ljava/lang/RuntimeException;" } : Jvm.MethodName)) ∈ lw_all := lw_g (lw_at lw_m7 142 rfl) rfl
theorem q1666 : (Jvm.Cond.code ({ cls := "jdk/internal/util/Preconditions", name := "outOfBoundsCheckIndex", desc := "(Ljava/util/function/BiFunction;II)Ljava/lang/RuntimeException;" } : Jvm.MethodName) prog_76_method_3_code (3 : Nat) (Option.some (Jvm.ClassFile.FieldType.object "java/lang/RuntimeException"))) ∈ lw_all := lw_g (lw_at lw_m7 143 rfl) rfl
theorem q1667 : (Jvm.Cond.stringRef "jdk/internal/util/Preconditions" (32 : Nat) "checkIndex") ∈ lw_tbl := lw_at lw_m7 144 rfl
/-! java/lang/Number -/
set_option maxRecDepth 100000
def RJ27 : String := "java/lang/Number"
abbrev cJ27_init : ByteArray := prog_33_method_1_code
def yJ27_init : MethodName := ⟨RJ27, "<init>", "()V"⟩
theorem dJ27_init_0 : decode cJ27_init 0 = .ok (.aload_n 0, 1) := by decide +kernel
theorem dJ27_init_1 : decode cJ27_init 1 = .ok (.invokespecial 1, 3) := by decide +kernel
theorem dJ27_init_4 : decode cJ27_init 4 = .ok (.return_, 1) := by decide +kernel
theorem q121 : (Jvm.Cond.initialized "java/lang/Number") ∈ lw_all := lw_g (lw_at lw_m1 38 rfl) rfl
theorem q928 : (Jvm.Cond.instanceMethod ({ cls := "java/lang/Number", name := "<init>", desc := "()V" } : Jvm.MethodName)) ∈ lw_all := lw_g (lw_at lw_m4 125 rfl) rfl
theorem q929 : (Jvm.Cond.code ({ cls := "java/lang/Number", name := "<init>", desc := "()V" } : Jvm.MethodName) prog_33_method_1_code (1 : Nat) (Option.none : Option Jvm.ClassFile.FieldType)) ∈ lw_all := lw_g (lw_at lw_m4 126 rfl) rfl
theorem q930 : (Jvm.Cond.methodLink "java/lang/Number" (1 : Nat) ({ cls := "java/lang/Object", name := "<init>", desc := "()V" } : Jvm.MethodName)) ∈ lw_all := lw_g (lw_at lw_m4 127 rfl) rfl
theorem q2786 : (Jvm.Cond.castable "java/lang/Number" "java/lang/Object") ∈ lw_tbl := lw_at lw_m12 63 rfl
/-! java/lang/Integer -/
set_option maxRecDepth 100000
def RJ28 : String := "java/lang/Integer"
def TJ28 : u_T := fun k => match k with
  | _ => ("java/lang/Integer", "value", "I", true)
def tyJ28 : Nat → FieldType := fun k => match k with
  | _ => .int
abbrev wsJ280 : List Cond := u_ws RJ28 TJ28 1
theorem nmJ28 : ∀ a, a < 1 → ∀ b, b < 1 → a ≠ b → (TJ28 a).2.1 ≠ (TJ28 b).2.1 := by decide +kernel
theorem tyJ28_ok : ∀ k, k < 1 → parseFieldDescriptor (TJ28 k).2.2.1 = some (tyJ28 k) := by decide +kernel
abbrev cJ28_valueOf : ByteArray := prog_27_method_22_code
def yJ28_valueOf : MethodName := ⟨RJ28, "valueOf", "(I)Ljava/lang/Integer;"⟩
def dkwJ28_valueOf_1 : List UInt8 := [187, 0, 1, 89, 26, 183, 0, 199, 176]
abbrev dktJ28_valueOf_1 : List UInt8 := dkwJ28_valueOf_1 ++ []
def dkwJ28_valueOf_0 : List UInt8 := [26, 16, 128, 161, 0, 20, 26, 178, 0, 191, 163, 0, 13, 178, 0, 195, 26, 17, 0, 128, 96, 50, 176]
abbrev dktJ28_valueOf_0 : List UInt8 := dkwJ28_valueOf_0 ++ dktJ28_valueOf_1
theorem dksJ28_valueOf_0 : cJ28_valueOf.data.toList.drop 0 = dktJ28_valueOf_0 := by decide +kernel
theorem dksJ28_valueOf_1 : cJ28_valueOf.data.toList.drop 23 = dktJ28_valueOf_1 := dk_seg dksJ28_valueOf_0 23 rfl rfl
theorem dJ28_valueOf_0 : decode cJ28_valueOf 0 = .ok (.iload_n 0, 1) := dk_26 (dk_at dksJ28_valueOf_0 0 rfl rfl)
theorem dJ28_valueOf_1 : decode cJ28_valueOf 1 = .ok (.bipush (-128), 2) := dk_16 128 (dk_at dksJ28_valueOf_0 1 rfl rfl)
theorem dJ28_valueOf_3 : decode cJ28_valueOf 3 = .ok (.if_icmp .lt 20, 3) := dk_161 0 20 (dk_at dksJ28_valueOf_0 3 rfl rfl)
theorem dJ28_valueOf_6 : decode cJ28_valueOf 6 = .ok (.iload_n 0, 1) := dk_26 (dk_at dksJ28_valueOf_0 6 rfl rfl)
theorem dJ28_valueOf_7 : decode cJ28_valueOf 7 = .ok (.getstatic 191, 3) := dk_178 0 191 (dk_at dksJ28_valueOf_0 7 rfl rfl)
theorem dJ28_valueOf_10 : decode cJ28_valueOf 10 = .ok (.if_icmp .gt 13, 3) := dk_163 0 13 (dk_at dksJ28_valueOf_0 10 rfl rfl)
theorem dJ28_valueOf_13 : decode cJ28_valueOf 13 = .ok (.getstatic 195, 3) := dk_178 0 195 (dk_at dksJ28_valueOf_0 13 rfl rfl)
theorem dJ28_valueOf_16 : decode cJ28_valueOf 16 = .ok (.iload_n 0, 1) := dk_26 (dk_at dksJ28_valueOf_0 16 rfl rfl)
theorem dJ28_valueOf_17 : decode cJ28_valueOf 17 = .ok (.sipush 128, 3) := dk_17 0 128 (dk_at dksJ28_valueOf_0 17 rfl rfl)
theorem dJ28_valueOf_20 : decode cJ28_valueOf 20 = .ok (.iadd, 1) := dk_96 (dk_at dksJ28_valueOf_0 20 rfl rfl)
theorem dJ28_valueOf_21 : decode cJ28_valueOf 21 = .ok (.aaload, 1) := dk_50 (dk_at dksJ28_valueOf_0 21 rfl rfl)
theorem dJ28_valueOf_22 : decode cJ28_valueOf 22 = .ok (.areturn, 1) := dk_176 (dk_at dksJ28_valueOf_0 22 rfl rfl)
theorem dJ28_valueOf_23 : decode cJ28_valueOf 23 = .ok (.new 1, 3) := dk_187 0 1 (dk_at dksJ28_valueOf_1 0 rfl rfl)
theorem dJ28_valueOf_26 : decode cJ28_valueOf 26 = .ok (.dup, 1) := dk_89 (dk_at dksJ28_valueOf_1 3 rfl rfl)
theorem dJ28_valueOf_27 : decode cJ28_valueOf 27 = .ok (.iload_n 0, 1) := dk_26 (dk_at dksJ28_valueOf_1 4 rfl rfl)
theorem dJ28_valueOf_28 : decode cJ28_valueOf 28 = .ok (.invokespecial 199, 3) := dk_183 0 199 (dk_at dksJ28_valueOf_1 5 rfl rfl)
theorem dJ28_valueOf_31 : decode cJ28_valueOf 31 = .ok (.areturn, 1) := dk_176 (dk_at dksJ28_valueOf_1 8 rfl rfl)
abbrev cJ28_init : ByteArray := prog_27_method_23_code
def yJ28_init : MethodName := ⟨RJ28, "<init>", "(I)V"⟩
def dkwJ28_init_0 : List UInt8 := [42, 183, 0, 202, 42, 27, 181, 0, 205, 177]
abbrev dktJ28_init_0 : List UInt8 := dkwJ28_init_0 ++ []
theorem dksJ28_init_0 : cJ28_init.data.toList.drop 0 = dktJ28_init_0 := by decide +kernel
theorem dJ28_init_0 : decode cJ28_init 0 = .ok (.aload_n 0, 1) := dk_42 (dk_at dksJ28_init_0 0 rfl rfl)
theorem dJ28_init_1 : decode cJ28_init 1 = .ok (.invokespecial 202, 3) := dk_183 0 202 (dk_at dksJ28_init_0 1 rfl rfl)
theorem dJ28_init_4 : decode cJ28_init 4 = .ok (.aload_n 0, 1) := dk_42 (dk_at dksJ28_init_0 4 rfl rfl)
theorem dJ28_init_5 : decode cJ28_init 5 = .ok (.iload_n 1, 1) := dk_27 (dk_at dksJ28_init_0 5 rfl rfl)
theorem dJ28_init_6 : decode cJ28_init 6 = .ok (.putfield 205, 3) := dk_181 0 205 (dk_at dksJ28_init_0 6 rfl rfl)
theorem dJ28_init_9 : decode cJ28_init 9 = .ok (.return_, 1) := dk_177 (dk_at dksJ28_init_0 9 rfl rfl)
abbrev cJ28_stringSize : ByteArray := prog_27_method_13_code
def yJ28_stringSize : MethodName := ⟨RJ28, "stringSize", "(I)I"⟩
def dkwJ28_stringSize_1 : List UInt8 := [164, 0, 7, 29, 27, 96, 172, 16, 10, 28, 104, 61, 132, 3, 1, 167, 255, 233, 16, 10, 27, 96, 172]
abbrev dktJ28_stringSize_1 : List UInt8 := dkwJ28_stringSize_1 ++ []
def dkwJ28_stringSize_0 : List UInt8 := [4, 60, 26, 155, 0, 8, 3, 60, 26, 116, 59, 16, 246, 61, 4, 62, 29, 16, 10, 162, 0, 23, 26, 28]
abbrev dktJ28_stringSize_0 : List UInt8 := dkwJ28_stringSize_0 ++ dktJ28_stringSize_1
theorem dksJ28_stringSize_0 : cJ28_stringSize.data.toList.drop 0 = dktJ28_stringSize_0 := by decide +kernel
theorem dksJ28_stringSize_1 : cJ28_stringSize.data.toList.drop 24 = dktJ28_stringSize_1 := dk_seg dksJ28_stringSize_0 24 rfl rfl
theorem dJ28_stringSize_0 : decode cJ28_stringSize 0 = .ok (.iconst 1, 1) := dk_4 (dk_at dksJ28_stringSize_0 0 rfl rfl)
theorem dJ28_stringSize_1 : decode cJ28_stringSize 1 = .ok (.istore_n 1, 1) := dk_60 (dk_at dksJ28_stringSize_0 1 rfl rfl)
theorem dJ28_stringSize_2 : decode cJ28_stringSize 2 = .ok (.iload_n 0, 1) := dk_26 (dk_at dksJ28_stringSize_0 2 rfl rfl)
theorem dJ28_stringSize_3 : decode cJ28_stringSize 3 = .ok (.ifCond .lt 8, 3) := dk_155 0 8 (dk_at dksJ28_stringSize_0 3 rfl rfl)
theorem dJ28_stringSize_6 : decode cJ28_stringSize 6 = .ok (.iconst 0, 1) := dk_3 (dk_at dksJ28_stringSize_0 6 rfl rfl)
theorem dJ28_stringSize_7 : decode cJ28_stringSize 7 = .ok (.istore_n 1, 1) := dk_60 (dk_at dksJ28_stringSize_0 7 rfl rfl)
theorem dJ28_stringSize_8 : decode cJ28_stringSize 8 = .ok (.iload_n 0, 1) := dk_26 (dk_at dksJ28_stringSize_0 8 rfl rfl)
theorem dJ28_stringSize_9 : decode cJ28_stringSize 9 = .ok (.ineg, 1) := dk_116 (dk_at dksJ28_stringSize_0 9 rfl rfl)
theorem dJ28_stringSize_10 : decode cJ28_stringSize 10 = .ok (.istore_n 0, 1) := dk_59 (dk_at dksJ28_stringSize_0 10 rfl rfl)
theorem dJ28_stringSize_11 : decode cJ28_stringSize 11 = .ok (.bipush (-10), 2) := dk_16 246 (dk_at dksJ28_stringSize_0 11 rfl rfl)
theorem dJ28_stringSize_13 : decode cJ28_stringSize 13 = .ok (.istore_n 2, 1) := dk_61 (dk_at dksJ28_stringSize_0 13 rfl rfl)
theorem dJ28_stringSize_14 : decode cJ28_stringSize 14 = .ok (.iconst 1, 1) := dk_4 (dk_at dksJ28_stringSize_0 14 rfl rfl)
theorem dJ28_stringSize_15 : decode cJ28_stringSize 15 = .ok (.istore_n 3, 1) := dk_62 (dk_at dksJ28_stringSize_0 15 rfl rfl)
theorem dJ28_stringSize_16 : decode cJ28_stringSize 16 = .ok (.iload_n 3, 1) := dk_29 (dk_at dksJ28_stringSize_0 16 rfl rfl)
theorem dJ28_stringSize_17 : decode cJ28_stringSize 17 = .ok (.bipush 10, 2) := dk_16 10 (dk_at dksJ28_stringSize_0 17 rfl rfl)
theorem dJ28_stringSize_19 : decode cJ28_stringSize 19 = .ok (.if_icmp .ge 23, 3) := dk_162 0 23 (dk_at dksJ28_stringSize_0 19 rfl rfl)
theorem dJ28_stringSize_22 : decode cJ28_stringSize 22 = .ok (.iload_n 0, 1) := dk_26 (dk_at dksJ28_stringSize_0 22 rfl rfl)
theorem dJ28_stringSize_23 : decode cJ28_stringSize 23 = .ok (.iload_n 2, 1) := dk_28 (dk_at dksJ28_stringSize_0 23 rfl rfl)
theorem dJ28_stringSize_24 : decode cJ28_stringSize 24 = .ok (.if_icmp .le 7, 3) := dk_164 0 7 (dk_at dksJ28_stringSize_1 0 rfl rfl)
theorem dJ28_stringSize_27 : decode cJ28_stringSize 27 = .ok (.iload_n 3, 1) := dk_29 (dk_at dksJ28_stringSize_1 3 rfl rfl)
theorem dJ28_stringSize_28 : decode cJ28_stringSize 28 = .ok (.iload_n 1, 1) := dk_27 (dk_at dksJ28_stringSize_1 4 rfl rfl)
theorem dJ28_stringSize_29 : decode cJ28_stringSize 29 = .ok (.iadd, 1) := dk_96 (dk_at dksJ28_stringSize_1 5 rfl rfl)
theorem dJ28_stringSize_30 : decode cJ28_stringSize 30 = .ok (.ireturn, 1) := dk_172 (dk_at dksJ28_stringSize_1 6 rfl rfl)
theorem dJ28_stringSize_31 : decode cJ28_stringSize 31 = .ok (.bipush 10, 2) := dk_16 10 (dk_at dksJ28_stringSize_1 7 rfl rfl)
theorem dJ28_stringSize_33 : decode cJ28_stringSize 33 = .ok (.iload_n 2, 1) := dk_28 (dk_at dksJ28_stringSize_1 9 rfl rfl)
theorem dJ28_stringSize_34 : decode cJ28_stringSize 34 = .ok (.imul, 1) := dk_104 (dk_at dksJ28_stringSize_1 10 rfl rfl)
theorem dJ28_stringSize_35 : decode cJ28_stringSize 35 = .ok (.istore_n 2, 1) := dk_61 (dk_at dksJ28_stringSize_1 11 rfl rfl)
theorem dJ28_stringSize_36 : decode cJ28_stringSize 36 = .ok (.iinc 3 1, 3) := dk_132 3 1 (dk_at dksJ28_stringSize_1 12 rfl rfl)
theorem dJ28_stringSize_39 : decode cJ28_stringSize 39 = .ok (.goto (-23), 3) := dk_167 255 233 (dk_at dksJ28_stringSize_1 15 rfl rfl)
theorem dJ28_stringSize_42 : decode cJ28_stringSize 42 = .ok (.bipush 10, 2) := dk_16 10 (dk_at dksJ28_stringSize_1 18 rfl rfl)
theorem dJ28_stringSize_44 : decode cJ28_stringSize 44 = .ok (.iload_n 1, 1) := dk_27 (dk_at dksJ28_stringSize_1 20 rfl rfl)
theorem dJ28_stringSize_45 : decode cJ28_stringSize 45 = .ok (.iadd, 1) := dk_96 (dk_at dksJ28_stringSize_1 21 rfl rfl)
theorem dJ28_stringSize_46 : decode cJ28_stringSize 46 = .ok (.ireturn, 1) := dk_172 (dk_at dksJ28_stringSize_1 22 rfl rfl)
abbrev cJ28_getChars : ByteArray := prog_27_method_12_code
def yJ28_getChars : MethodName := ⟨RJ28, "getChars", "(II[B)I"⟩
def dkwJ28_getChars_5 : List UInt8 := [16, 45, 84, 21, 5, 172]
abbrev dktJ28_getChars_5 : List UInt8 := dkwJ28_getChars_5 ++ []
def dkwJ28_getChars_4 : List UInt8 := [132, 5, 255, 21, 5, 178, 0, 87, 26, 116, 51, 84, 21, 6, 153, 0, 12, 44, 132, 5, 255, 21, 5]
abbrev dktJ28_getChars_4 : List UInt8 := dkwJ28_getChars_4 ++ dktJ28_getChars_5
def dkwJ28_getChars_3 : List UInt8 := [167, 255, 209, 44, 132, 5, 255, 21, 5, 178, 0, 83, 26, 116, 51, 84, 26, 16, 247, 162, 0, 16, 44]
abbrev dktJ28_getChars_3 : List UInt8 := dkwJ28_getChars_3 ++ dktJ28_getChars_4
def dkwJ28_getChars_2 : List UInt8 := [21, 5, 178, 0, 83, 21, 4, 51, 84, 44, 132, 5, 255, 21, 5, 178, 0, 87, 21, 4, 51, 84]
abbrev dktJ28_getChars_2 : List UInt8 := dkwJ28_getChars_2 ++ dktJ28_getChars_3
def dkwJ28_getChars_1 : List UInt8 := [16, 156, 163, 0, 47, 26, 16, 100, 108, 62, 29, 16, 100, 104, 26, 100, 54, 4, 29, 59, 44, 132, 5, 255]
abbrev dktJ28_getChars_1 : List UInt8 := dkwJ28_getChars_1 ++ dktJ28_getChars_2
def dkwJ28_getChars_0 : List UInt8 := [27, 54, 5, 26, 156, 0, 7, 4, 167, 0, 4, 3, 54, 6, 21, 6, 154, 0, 6, 26, 116, 59, 26]
abbrev dktJ28_getChars_0 : List UInt8 := dkwJ28_getChars_0 ++ dktJ28_getChars_1
theorem dksJ28_getChars_0 : cJ28_getChars.data.toList.drop 0 = dktJ28_getChars_0 := by decide +kernel
theorem dksJ28_getChars_1 : cJ28_getChars.data.toList.drop 23 = dktJ28_getChars_1 := dk_seg dksJ28_getChars_0 23 rfl rfl
theorem dksJ28_getChars_2 : cJ28_getChars.data.toList.drop 47 = dktJ28_getChars_2 := dk_seg dksJ28_getChars_1 24 rfl rfl
theorem dksJ28_getChars_3 : cJ28_getChars.data.toList.drop 69 = dktJ28_getChars_3 := dk_seg dksJ28_getChars_2 22 rfl rfl
theorem dksJ28_getChars_4 : cJ28_getChars.data.toList.drop 92 = dktJ28_getChars_4 := dk_seg dksJ28_getChars_3 23 rfl rfl
theorem dksJ28_getChars_5 : cJ28_getChars.data.toList.drop 115 = dktJ28_getChars_5 := dk_seg dksJ28_getChars_4 23 rfl rfl
theorem dJ28_getChars_0 : decode cJ28_getChars 0 = .ok (.iload_n 1, 1) := dk_27 (dk_at dksJ28_getChars_0 0 rfl rfl)
theorem dJ28_getChars_1 : decode cJ28_getChars 1 = .ok (.istore 5, 2) := dk_54 5 (dk_at dksJ28_getChars_0 1 rfl rfl)
theorem dJ28_getChars_3 : decode cJ28_getChars 3 = .ok (.iload_n 0, 1) := dk_26 (dk_at dksJ28_getChars_0 3 rfl rfl)
theorem dJ28_getChars_4 : decode cJ28_getChars 4 = .ok (.ifCond .ge 7, 3) := dk_156 0 7 (dk_at dksJ28_getChars_0 4 rfl rfl)
theorem dJ28_getChars_7 : decode cJ28_getChars 7 = .ok (.iconst 1, 1) := dk_4 (dk_at dksJ28_getChars_0 7 rfl rfl)
theorem dJ28_getChars_8 : decode cJ28_getChars 8 = .ok (.goto 4, 3) := dk_167 0 4 (dk_at dksJ28_getChars_0 8 rfl rfl)
theorem dJ28_getChars_11 : decode cJ28_getChars 11 = .ok (.iconst 0, 1) := dk_3 (dk_at dksJ28_getChars_0 11 rfl rfl)
theorem dJ28_getChars_12 : decode cJ28_getChars 12 = .ok (.istore 6, 2) := dk_54 6 (dk_at dksJ28_getChars_0 12 rfl rfl)
theorem dJ28_getChars_14 : decode cJ28_getChars 14 = .ok (.iload 6, 2) := dk_21 6 (dk_at dksJ28_getChars_0 14 rfl rfl)
theorem dJ28_getChars_16 : decode cJ28_getChars 16 = .ok (.ifCond .ne 6, 3) := dk_154 0 6 (dk_at dksJ28_getChars_0 16 rfl rfl)
theorem dJ28_getChars_19 : decode cJ28_getChars 19 = .ok (.iload_n 0, 1) := dk_26 (dk_at dksJ28_getChars_0 19 rfl rfl)
theorem dJ28_getChars_20 : decode cJ28_getChars 20 = .ok (.ineg, 1) := dk_116 (dk_at dksJ28_getChars_0 20 rfl rfl)
theorem dJ28_getChars_21 : decode cJ28_getChars 21 = .ok (.istore_n 0, 1) := dk_59 (dk_at dksJ28_getChars_0 21 rfl rfl)
theorem dJ28_getChars_22 : decode cJ28_getChars 22 = .ok (.iload_n 0, 1) := dk_26 (dk_at dksJ28_getChars_0 22 rfl rfl)
theorem dJ28_getChars_23 : decode cJ28_getChars 23 = .ok (.bipush (-100), 2) := dk_16 156 (dk_at dksJ28_getChars_1 0 rfl rfl)
theorem dJ28_getChars_25 : decode cJ28_getChars 25 = .ok (.if_icmp .gt 47, 3) := dk_163 0 47 (dk_at dksJ28_getChars_1 2 rfl rfl)
theorem dJ28_getChars_28 : decode cJ28_getChars 28 = .ok (.iload_n 0, 1) := dk_26 (dk_at dksJ28_getChars_1 5 rfl rfl)
theorem dJ28_getChars_29 : decode cJ28_getChars 29 = .ok (.bipush 100, 2) := dk_16 100 (dk_at dksJ28_getChars_1 6 rfl rfl)
theorem dJ28_getChars_31 : decode cJ28_getChars 31 = .ok (.idiv, 1) := dk_108 (dk_at dksJ28_getChars_1 8 rfl rfl)
theorem dJ28_getChars_32 : decode cJ28_getChars 32 = .ok (.istore_n 3, 1) := dk_62 (dk_at dksJ28_getChars_1 9 rfl rfl)
theorem dJ28_getChars_33 : decode cJ28_getChars 33 = .ok (.iload_n 3, 1) := dk_29 (dk_at dksJ28_getChars_1 10 rfl rfl)
theorem dJ28_getChars_34 : decode cJ28_getChars 34 = .ok (.bipush 100, 2) := dk_16 100 (dk_at dksJ28_getChars_1 11 rfl rfl)
theorem dJ28_getChars_36 : decode cJ28_getChars 36 = .ok (.imul, 1) := dk_104 (dk_at dksJ28_getChars_1 13 rfl rfl)
theorem dJ28_getChars_37 : decode cJ28_getChars 37 = .ok (.iload_n 0, 1) := dk_26 (dk_at dksJ28_getChars_1 14 rfl rfl)
theorem dJ28_getChars_38 : decode cJ28_getChars 38 = .ok (.isub, 1) := dk_100 (dk_at dksJ28_getChars_1 15 rfl rfl)
theorem dJ28_getChars_39 : decode cJ28_getChars 39 = .ok (.istore 4, 2) := dk_54 4 (dk_at dksJ28_getChars_1 16 rfl rfl)
theorem dJ28_getChars_41 : decode cJ28_getChars 41 = .ok (.iload_n 3, 1) := dk_29 (dk_at dksJ28_getChars_1 18 rfl rfl)
theorem dJ28_getChars_42 : decode cJ28_getChars 42 = .ok (.istore_n 0, 1) := dk_59 (dk_at dksJ28_getChars_1 19 rfl rfl)
theorem dJ28_getChars_43 : decode cJ28_getChars 43 = .ok (.aload_n 2, 1) := dk_44 (dk_at dksJ28_getChars_1 20 rfl rfl)
theorem dJ28_getChars_44 : decode cJ28_getChars 44 = .ok (.iinc 5 (-1), 3) := dk_132 5 255 (dk_at dksJ28_getChars_1 21 rfl rfl)
theorem dJ28_getChars_47 : decode cJ28_getChars 47 = .ok (.iload 5, 2) := dk_21 5 (dk_at dksJ28_getChars_2 0 rfl rfl)
theorem dJ28_getChars_49 : decode cJ28_getChars 49 = .ok (.getstatic 83, 3) := dk_178 0 83 (dk_at dksJ28_getChars_2 2 rfl rfl)
theorem dJ28_getChars_52 : decode cJ28_getChars 52 = .ok (.iload 4, 2) := dk_21 4 (dk_at dksJ28_getChars_2 5 rfl rfl)
theorem dJ28_getChars_54 : decode cJ28_getChars 54 = .ok (.baload, 1) := dk_51 (dk_at dksJ28_getChars_2 7 rfl rfl)
theorem dJ28_getChars_55 : decode cJ28_getChars 55 = .ok (.bastore, 1) := dk_84 (dk_at dksJ28_getChars_2 8 rfl rfl)
theorem dJ28_getChars_56 : decode cJ28_getChars 56 = .ok (.aload_n 2, 1) := dk_44 (dk_at dksJ28_getChars_2 9 rfl rfl)
theorem dJ28_getChars_57 : decode cJ28_getChars 57 = .ok (.iinc 5 (-1), 3) := dk_132 5 255 (dk_at dksJ28_getChars_2 10 rfl rfl)
theorem dJ28_getChars_60 : decode cJ28_getChars 60 = .ok (.iload 5, 2) := dk_21 5 (dk_at dksJ28_getChars_2 13 rfl rfl)
theorem dJ28_getChars_62 : decode cJ28_getChars 62 = .ok (.getstatic 87, 3) := dk_178 0 87 (dk_at dksJ28_getChars_2 15 rfl rfl)
theorem dJ28_getChars_65 : decode cJ28_getChars 65 = .ok (.iload 4, 2) := dk_21 4 (dk_at dksJ28_getChars_2 18 rfl rfl)
theorem dJ28_getChars_67 : decode cJ28_getChars 67 = .ok (.baload, 1) := dk_51 (dk_at dksJ28_getChars_2 20 rfl rfl)
theorem dJ28_getChars_68 : decode cJ28_getChars 68 = .ok (.bastore, 1) := dk_84 (dk_at dksJ28_getChars_2 21 rfl rfl)
theorem dJ28_getChars_69 : decode cJ28_getChars 69 = .ok (.goto (-47), 3) := dk_167 255 209 (dk_at dksJ28_getChars_3 0 rfl rfl)
theorem dJ28_getChars_72 : decode cJ28_getChars 72 = .ok (.aload_n 2, 1) := dk_44 (dk_at dksJ28_getChars_3 3 rfl rfl)
theorem dJ28_getChars_73 : decode cJ28_getChars 73 = .ok (.iinc 5 (-1), 3) := dk_132 5 255 (dk_at dksJ28_getChars_3 4 rfl rfl)
theorem dJ28_getChars_76 : decode cJ28_getChars 76 = .ok (.iload 5, 2) := dk_21 5 (dk_at dksJ28_getChars_3 7 rfl rfl)
theorem dJ28_getChars_78 : decode cJ28_getChars 78 = .ok (.getstatic 83, 3) := dk_178 0 83 (dk_at dksJ28_getChars_3 9 rfl rfl)
theorem dJ28_getChars_81 : decode cJ28_getChars 81 = .ok (.iload_n 0, 1) := dk_26 (dk_at dksJ28_getChars_3 12 rfl rfl)
theorem dJ28_getChars_82 : decode cJ28_getChars 82 = .ok (.ineg, 1) := dk_116 (dk_at dksJ28_getChars_3 13 rfl rfl)
theorem dJ28_getChars_83 : decode cJ28_getChars 83 = .ok (.baload, 1) := dk_51 (dk_at dksJ28_getChars_3 14 rfl rfl)
theorem dJ28_getChars_84 : decode cJ28_getChars 84 = .ok (.bastore, 1) := dk_84 (dk_at dksJ28_getChars_3 15 rfl rfl)
theorem dJ28_getChars_85 : decode cJ28_getChars 85 = .ok (.iload_n 0, 1) := dk_26 (dk_at dksJ28_getChars_3 16 rfl rfl)
theorem dJ28_getChars_86 : decode cJ28_getChars 86 = .ok (.bipush (-9), 2) := dk_16 247 (dk_at dksJ28_getChars_3 17 rfl rfl)
theorem dJ28_getChars_88 : decode cJ28_getChars 88 = .ok (.if_icmp .ge 16, 3) := dk_162 0 16 (dk_at dksJ28_getChars_3 19 rfl rfl)
theorem dJ28_getChars_91 : decode cJ28_getChars 91 = .ok (.aload_n 2, 1) := dk_44 (dk_at dksJ28_getChars_3 22 rfl rfl)
theorem dJ28_getChars_92 : decode cJ28_getChars 92 = .ok (.iinc 5 (-1), 3) := dk_132 5 255 (dk_at dksJ28_getChars_4 0 rfl rfl)
theorem dJ28_getChars_95 : decode cJ28_getChars 95 = .ok (.iload 5, 2) := dk_21 5 (dk_at dksJ28_getChars_4 3 rfl rfl)
theorem dJ28_getChars_97 : decode cJ28_getChars 97 = .ok (.getstatic 87, 3) := dk_178 0 87 (dk_at dksJ28_getChars_4 5 rfl rfl)
theorem dJ28_getChars_100 : decode cJ28_getChars 100 = .ok (.iload_n 0, 1) := dk_26 (dk_at dksJ28_getChars_4 8 rfl rfl)
theorem dJ28_getChars_101 : decode cJ28_getChars 101 = .ok (.ineg, 1) := dk_116 (dk_at dksJ28_getChars_4 9 rfl rfl)
theorem dJ28_getChars_102 : decode cJ28_getChars 102 = .ok (.baload, 1) := dk_51 (dk_at dksJ28_getChars_4 10 rfl rfl)
theorem dJ28_getChars_103 : decode cJ28_getChars 103 = .ok (.bastore, 1) := dk_84 (dk_at dksJ28_getChars_4 11 rfl rfl)
theorem dJ28_getChars_104 : decode cJ28_getChars 104 = .ok (.iload 6, 2) := dk_21 6 (dk_at dksJ28_getChars_4 12 rfl rfl)
theorem dJ28_getChars_106 : decode cJ28_getChars 106 = .ok (.ifCond .eq 12, 3) := dk_153 0 12 (dk_at dksJ28_getChars_4 14 rfl rfl)
theorem dJ28_getChars_109 : decode cJ28_getChars 109 = .ok (.aload_n 2, 1) := dk_44 (dk_at dksJ28_getChars_4 17 rfl rfl)
theorem dJ28_getChars_110 : decode cJ28_getChars 110 = .ok (.iinc 5 (-1), 3) := dk_132 5 255 (dk_at dksJ28_getChars_4 18 rfl rfl)
theorem dJ28_getChars_113 : decode cJ28_getChars 113 = .ok (.iload 5, 2) := dk_21 5 (dk_at dksJ28_getChars_4 21 rfl rfl)
theorem dJ28_getChars_115 : decode cJ28_getChars 115 = .ok (.bipush 45, 2) := dk_16 45 (dk_at dksJ28_getChars_5 0 rfl rfl)
theorem dJ28_getChars_117 : decode cJ28_getChars 117 = .ok (.bastore, 1) := dk_84 (dk_at dksJ28_getChars_5 2 rfl rfl)
theorem dJ28_getChars_118 : decode cJ28_getChars 118 = .ok (.iload 5, 2) := dk_21 5 (dk_at dksJ28_getChars_5 3 rfl rfl)
theorem dJ28_getChars_120 : decode cJ28_getChars 120 = .ok (.ireturn, 1) := dk_172 (dk_at dksJ28_getChars_5 5 rfl rfl)
theorem q122 : (Jvm.Cond.initialized "java/lang/Integer") ∈ lw_all := lw_g (lw_at lw_m1 39 rfl) rfl
theorem q513 : (Jvm.Cond.selects "java/lang/Integer" ({ cls := "java/lang/Object", name := "getClass", desc := "()Ljava/lang/Class;" } : Jvm.MethodName) ({ cls := "java/lang/Object", name := "getClass", desc := "()Ljava/lang/Class;" } : Jvm.MethodName)) ∈ lw_all := lw_g (lw_at lw_m2 190 rfl) rfl
theorem q916 : (Jvm.Cond.static ({ cls := "java/lang/Integer", name := "valueOf", desc := "(I)Ljava/lang/Integer;" } : Jvm.MethodName)) ∈ lw_all := lw_g (lw_at lw_m4 113 rfl) rfl
theorem q917 : (Jvm.Cond.code ({ cls := "java/lang/Integer", name := "valueOf", desc := "(I)Ljava/lang/Integer;" } : Jvm.MethodName) prog_27_method_22_code (1 : Nat) (Option.some (Jvm.ClassFile.FieldType.object "java/lang/Integer"))) ∈ lw_all := lw_g (lw_at lw_m4 114 rfl) rfl
theorem q918 : (Jvm.Cond.fieldLink "java/lang/Integer" (191 : Nat) "java/lang/Integer$IntegerCache" "high" "I") ∈ lw_all := lw_g (lw_at lw_m4 115 rfl) rfl
theorem q920 : (Jvm.Cond.fieldLink "java/lang/Integer" (195 : Nat) "java/lang/Integer$IntegerCache" "cache" "[Ljava/lang/Integer;") ∈ lw_all := lw_g (lw_at lw_m4 117 rfl) rfl
theorem q922 : (Jvm.Cond.classLink "java/lang/Integer" (1 : Nat) "java/lang/Integer") ∈ lw_all := lw_g (lw_at lw_m4 119 rfl) rfl
theorem q923 : (Jvm.Cond.instantiable "java/lang/Integer" (1 : Nat)) ∈ lw_all := lw_g (lw_at lw_m4 120 rfl) rfl
theorem q924 : (Jvm.Cond.methodLink "java/lang/Integer" (199 : Nat) ({ cls := "java/lang/Integer", name := "<init>", desc := "(I)V" } : Jvm.MethodName)) ∈ lw_all := lw_g (lw_at lw_m4 121 rfl) rfl
theorem q925 : (Jvm.Cond.instanceMethod ({ cls := "java/lang/Integer", name := "<init>", desc := "(I)V" } : Jvm.MethodName)) ∈ lw_all := lw_g (lw_at lw_m4 122 rfl) rfl
theorem q926 : (Jvm.Cond.code ({ cls := "java/lang/Integer", name := "<init>", desc := "(I)V" } : Jvm.MethodName) prog_27_method_23_code (2 : Nat) (Option.none : Option Jvm.ClassFile.FieldType)) ∈ lw_all := lw_g (lw_at lw_m4 123 rfl) rfl
theorem q927 : (Jvm.Cond.methodLink "java/lang/Integer" (202 : Nat) ({ cls := "java/lang/Number", name := "<init>", desc := "()V" } : Jvm.MethodName)) ∈ lw_all := lw_g (lw_at lw_m4 124 rfl) rfl
theorem q931 : (Jvm.Cond.fieldLink "java/lang/Integer" (205 : Nat) "java/lang/Integer" "value" "I") ∈ lw_all := lw_g (lw_at lw_m4 128 rfl) rfl
theorem q932 : (Jvm.Cond.laysFinal "java/lang/Integer" "java/lang/Integer" "value" "I") ∈ lw_all := lw_g (lw_at lw_m4 129 rfl) rfl
theorem q933 : (Jvm.Cond.soleField "java/lang/Integer" "value") ∈ lw_all := lw_g (lw_at lw_m4 130 rfl) rfl
theorem q934 : (Jvm.Cond.superclass "java/lang/Integer" "java/lang/Number") ∈ lw_all := lw_g (lw_at lw_m4 131 rfl) rfl
theorem q1073 : (Jvm.Cond.static ({ cls := "java/lang/Integer", name := "stringSize", desc := "(I)I" } : Jvm.MethodName)) ∈ lw_all := lw_g (lw_at lw_m5 30 rfl) rfl
theorem q1074 : (Jvm.Cond.code ({ cls := "java/lang/Integer", name := "stringSize", desc := "(I)I" } : Jvm.MethodName) prog_27_method_13_code (4 : Nat) (Option.some Jvm.ClassFile.FieldType.int)) ∈ lw_all := lw_g (lw_at lw_m5 31 rfl) rfl
theorem q1076 : (Jvm.Cond.static ({ cls := "java/lang/Integer", name := "getChars", desc := "(II[B)I" } : Jvm.MethodName)) ∈ lw_all := lw_g (lw_at lw_m5 33 rfl) rfl
theorem q1077 : (Jvm.Cond.code ({ cls := "java/lang/Integer", name := "getChars", desc := "(II[B)I" } : Jvm.MethodName) prog_27_method_12_code (7 : Nat) (Option.some Jvm.ClassFile.FieldType.int)) ∈ lw_all := lw_g (lw_at lw_m5 34 rfl) rfl
theorem q1078 : (Jvm.Cond.fieldLink "java/lang/Integer" (83 : Nat) "java/lang/Integer" "DigitOnes" "[B") ∈ lw_all := lw_g (lw_at lw_m5 35 rfl) rfl
theorem q1079 : (Jvm.Cond.laysStatic "java/lang/Integer" "DigitOnes" "[B") ∈ lw_tbl := lw_at lw_m5 36 rfl
theorem q1080 : (Jvm.Cond.fieldLink "java/lang/Integer" (87 : Nat) "java/lang/Integer" "DigitTens" "[B") ∈ lw_all := lw_g (lw_at lw_m5 37 rfl) rfl
theorem q1081 : (Jvm.Cond.laysStatic "java/lang/Integer" "DigitTens" "[B") ∈ lw_tbl := lw_at lw_m5 38 rfl
theorem q2806 : (Jvm.Cond.castable "java/lang/Integer" "java/lang/Object") ∈ lw_tbl := lw_at lw_m12 83 rfl
theorem q2820 : (Jvm.Cond.castable "java/lang/Integer" "java/lang/Number") ∈ lw_tbl := lw_at lw_m12 97 rfl
theorem in_J28 : ∀ w ∈ wsJ280, w ∈ lw_all := lw_in wsJ280 [932] (by decide +kernel) (by decide +kernel)
/-! java/util/List -/
set_option maxRecDepth 100000
def RJ29 : String := "java/util/List"
abbrev cJ29_of : ByteArray := prog_66_method_47_code
def yJ29_of : MethodName := ⟨RJ29, "of", "([Ljava/lang/Object;)Ljava/util/List;"⟩
def dkwJ29_of_3 : List UInt8 := [42, 4, 50, 183, 0, 100, 176, 42, 184, 0, 109, 176]
abbrev dktJ29_of_3 : List UInt8 := dkwJ29_of_3 ++ []
def dkwJ29_of_2 : List UInt8 := [178, 0, 90, 76, 43, 176, 187, 0, 96, 89, 42, 3, 50, 183, 0, 98, 176, 187, 0, 96, 89, 42, 3, 50]
abbrev dktJ29_of_2 : List UInt8 := dkwJ29_of_2 ++ dktJ29_of_3
def dkwJ29_of_1 : List UInt8 := [170, 0, 0, 0, 0, 57, 0, 0, 0, 0, 0, 0, 0, 2, 0, 0, 0, 26, 0, 0, 0, 32, 0, 0, 0, 43]
abbrev dktJ29_of_1 : List UInt8 := dkwJ29_of_1 ++ dktJ29_of_2
def dkwJ29_of_0 : List UInt8 := [42, 190]
abbrev dktJ29_of_0 : List UInt8 := dkwJ29_of_0 ++ dktJ29_of_1
theorem dksJ29_of_0 : cJ29_of.data.toList.drop 0 = dktJ29_of_0 := by decide +kernel
theorem dksJ29_of_1 : cJ29_of.data.toList.drop 2 = dktJ29_of_1 := dk_seg dksJ29_of_0 2 rfl rfl
theorem dksJ29_of_2 : cJ29_of.data.toList.drop 28 = dktJ29_of_2 := dk_seg dksJ29_of_1 26 rfl rfl
theorem dksJ29_of_3 : cJ29_of.data.toList.drop 52 = dktJ29_of_3 := dk_seg dksJ29_of_2 24 rfl rfl
theorem dJ29_of_0 : decode cJ29_of 0 = .ok (.aload_n 0, 1) := dk_42 (dk_at dksJ29_of_0 0 rfl rfl)
theorem dJ29_of_1 : decode cJ29_of 1 = .ok (.arraylength, 1) := dk_190 (dk_at dksJ29_of_0 1 rfl rfl)
theorem dJ29_of_2 : decode cJ29_of 2 = .ok (.tableswitch 57 0 2 #[26, 32, 43], 26) := by decide +kernel
theorem dJ29_of_28 : decode cJ29_of 28 = .ok (.getstatic 90, 3) := dk_178 0 90 (dk_at dksJ29_of_2 0 rfl rfl)
theorem dJ29_of_31 : decode cJ29_of 31 = .ok (.astore_n 1, 1) := dk_76 (dk_at dksJ29_of_2 3 rfl rfl)
theorem dJ29_of_32 : decode cJ29_of 32 = .ok (.aload_n 1, 1) := dk_43 (dk_at dksJ29_of_2 4 rfl rfl)
theorem dJ29_of_33 : decode cJ29_of 33 = .ok (.areturn, 1) := dk_176 (dk_at dksJ29_of_2 5 rfl rfl)
theorem dJ29_of_34 : decode cJ29_of 34 = .ok (.new 96, 3) := dk_187 0 96 (dk_at dksJ29_of_2 6 rfl rfl)
theorem dJ29_of_37 : decode cJ29_of 37 = .ok (.dup, 1) := dk_89 (dk_at dksJ29_of_2 9 rfl rfl)
theorem dJ29_of_38 : decode cJ29_of 38 = .ok (.aload_n 0, 1) := dk_42 (dk_at dksJ29_of_2 10 rfl rfl)
theorem dJ29_of_39 : decode cJ29_of 39 = .ok (.iconst 0, 1) := dk_3 (dk_at dksJ29_of_2 11 rfl rfl)
theorem dJ29_of_40 : decode cJ29_of 40 = .ok (.aaload, 1) := dk_50 (dk_at dksJ29_of_2 12 rfl rfl)
theorem dJ29_of_41 : decode cJ29_of 41 = .ok (.invokespecial 98, 3) := dk_183 0 98 (dk_at dksJ29_of_2 13 rfl rfl)
theorem dJ29_of_44 : decode cJ29_of 44 = .ok (.areturn, 1) := dk_176 (dk_at dksJ29_of_2 16 rfl rfl)
theorem dJ29_of_45 : decode cJ29_of 45 = .ok (.new 96, 3) := dk_187 0 96 (dk_at dksJ29_of_2 17 rfl rfl)
theorem dJ29_of_48 : decode cJ29_of 48 = .ok (.dup, 1) := dk_89 (dk_at dksJ29_of_2 20 rfl rfl)
theorem dJ29_of_49 : decode cJ29_of 49 = .ok (.aload_n 0, 1) := dk_42 (dk_at dksJ29_of_2 21 rfl rfl)
theorem dJ29_of_50 : decode cJ29_of 50 = .ok (.iconst 0, 1) := dk_3 (dk_at dksJ29_of_2 22 rfl rfl)
theorem dJ29_of_51 : decode cJ29_of 51 = .ok (.aaload, 1) := dk_50 (dk_at dksJ29_of_2 23 rfl rfl)
theorem dJ29_of_52 : decode cJ29_of 52 = .ok (.aload_n 0, 1) := dk_42 (dk_at dksJ29_of_3 0 rfl rfl)
theorem dJ29_of_53 : decode cJ29_of 53 = .ok (.iconst 1, 1) := dk_4 (dk_at dksJ29_of_3 1 rfl rfl)
theorem dJ29_of_54 : decode cJ29_of 54 = .ok (.aaload, 1) := dk_50 (dk_at dksJ29_of_3 2 rfl rfl)
theorem dJ29_of_55 : decode cJ29_of 55 = .ok (.invokespecial 100, 3) := dk_183 0 100 (dk_at dksJ29_of_3 3 rfl rfl)
theorem dJ29_of_58 : decode cJ29_of 58 = .ok (.areturn, 1) := dk_176 (dk_at dksJ29_of_3 6 rfl rfl)
theorem dJ29_of_59 : decode cJ29_of 59 = .ok (.aload_n 0, 1) := dk_42 (dk_at dksJ29_of_3 7 rfl rfl)
theorem dJ29_of_60 : decode cJ29_of 60 = .ok (.invokestatic 109, 3) := dk_184 0 109 (dk_at dksJ29_of_3 8 rfl rfl)
theorem dJ29_of_63 : decode cJ29_of 63 = .ok (.areturn, 1) := dk_176 (dk_at dksJ29_of_3 11 rfl rfl)
theorem q124 : (Jvm.Cond.initialized "java/util/List") ∈ lw_all := lw_g (lw_at lw_m1 41 rfl) rfl
theorem q939 : (Jvm.Cond.static ({ cls := "java/util/List", name := "of", desc := "([Ljava/lang/Object;)Ljava/util/List;" } : Jvm.MethodName)) ∈ lw_all := lw_g (lw_at lw_m4 136 rfl) rfl
theorem q940 : (Jvm.Cond.code ({ cls := "java/util/List", name := "of", desc := "([Ljava/lang/Object;)Ljava/util/List;" } : Jvm.MethodName) prog_66_method_47_code (2 : Nat) (Option.some (Jvm.ClassFile.FieldType.object "java/util/List"))) ∈ lw_all := lw_g (lw_at lw_m4 137 rfl) rfl
theorem q941 : (Jvm.Cond.fieldLink "java/util/List" (90 : Nat) "java/util/ImmutableCollections" "EMPTY_LIST" "Ljava/util/ImmutableCollections$ListN;") ∈ lw_all := lw_g (lw_at lw_m4 138 rfl) rfl
theorem q943 : (Jvm.Cond.classLink "java/util/List" (96 : Nat) "java/util/ImmutableCollections$List12") ∈ lw_all := lw_g (lw_at lw_m4 140 rfl) rfl
theorem q945 : (Jvm.Cond.methodLink "java/util/List" (98 : Nat) ({ cls := "java/util/ImmutableCollections$List12", name := "<init>", desc := "(Ljava/lang/Object;)V" } : Jvm.MethodName)) ∈ lw_all := lw_g (lw_at lw_m4 142 rfl) rfl
theorem q965 : (Jvm.Cond.methodLink "java/util/List" (100 : Nat) ({ cls := "java/util/ImmutableCollections$List12", name := "<init>", desc := "(Ljava/lang/Object;Ljava/lang/Object;)V" } : Jvm.MethodName)) ∈ lw_all := lw_g (lw_at lw_m4 162 rfl) rfl
theorem q968 : (Jvm.Cond.methodLink "java/util/List" (109 : Nat) ({ cls := "java/util/ImmutableCollections", name := "listFromArray", desc := "([Ljava/lang/Object;)Ljava/util/List;" } : Jvm.MethodName)) ∈ lw_all := lw_g (lw_at lw_m4 165 rfl) rfl
/-! java/util/ImmutableCollections -/
set_option maxRecDepth 100000
def RJ30 : String := "java/util/ImmutableCollections"
abbrev cJ30_listFromArray : ByteArray := prog_57_method_4_code
def yJ30_listFromArray : MethodName := ⟨RJ30, "listFromArray", "([Ljava/lang/Object;)Ljava/util/List;"⟩
def dkwJ30_listFromArray_1 : List UInt8 := [132, 2, 1, 167, 255, 238, 187, 0, 12, 89, 43, 3, 183, 0, 43, 176]
abbrev dktJ30_listFromArray_1 : List UInt8 := dkwJ30_listFromArray_1 ++ []
def dkwJ30_listFromArray_0 : List UInt8 := [42, 190, 189, 0, 2, 76, 3, 61, 28, 42, 190, 162, 0, 18, 43, 28, 42, 28, 50, 184, 0, 37, 83]
abbrev dktJ30_listFromArray_0 : List UInt8 := dkwJ30_listFromArray_0 ++ dktJ30_listFromArray_1
theorem dksJ30_listFromArray_0 : cJ30_listFromArray.data.toList.drop 0 = dktJ30_listFromArray_0 := by decide +kernel
theorem dksJ30_listFromArray_1 : cJ30_listFromArray.data.toList.drop 23 = dktJ30_listFromArray_1 := dk_seg dksJ30_listFromArray_0 23 rfl rfl
theorem dJ30_listFromArray_0 : decode cJ30_listFromArray 0 = .ok (.aload_n 0, 1) := dk_42 (dk_at dksJ30_listFromArray_0 0 rfl rfl)
theorem dJ30_listFromArray_1 : decode cJ30_listFromArray 1 = .ok (.arraylength, 1) := dk_190 (dk_at dksJ30_listFromArray_0 1 rfl rfl)
theorem dJ30_listFromArray_2 : decode cJ30_listFromArray 2 = .ok (.anewarray 2, 3) := dk_189 0 2 (dk_at dksJ30_listFromArray_0 2 rfl rfl)
theorem dJ30_listFromArray_5 : decode cJ30_listFromArray 5 = .ok (.astore_n 1, 1) := dk_76 (dk_at dksJ30_listFromArray_0 5 rfl rfl)
theorem dJ30_listFromArray_6 : decode cJ30_listFromArray 6 = .ok (.iconst 0, 1) := dk_3 (dk_at dksJ30_listFromArray_0 6 rfl rfl)
theorem dJ30_listFromArray_7 : decode cJ30_listFromArray 7 = .ok (.istore_n 2, 1) := dk_61 (dk_at dksJ30_listFromArray_0 7 rfl rfl)
theorem dJ30_listFromArray_8 : decode cJ30_listFromArray 8 = .ok (.iload_n 2, 1) := dk_28 (dk_at dksJ30_listFromArray_0 8 rfl rfl)
theorem dJ30_listFromArray_9 : decode cJ30_listFromArray 9 = .ok (.aload_n 0, 1) := dk_42 (dk_at dksJ30_listFromArray_0 9 rfl rfl)
theorem dJ30_listFromArray_10 : decode cJ30_listFromArray 10 = .ok (.arraylength, 1) := dk_190 (dk_at dksJ30_listFromArray_0 10 rfl rfl)
theorem dJ30_listFromArray_11 : decode cJ30_listFromArray 11 = .ok (.if_icmp .ge 18, 3) := dk_162 0 18 (dk_at dksJ30_listFromArray_0 11 rfl rfl)
theorem dJ30_listFromArray_14 : decode cJ30_listFromArray 14 = .ok (.aload_n 1, 1) := dk_43 (dk_at dksJ30_listFromArray_0 14 rfl rfl)
theorem dJ30_listFromArray_15 : decode cJ30_listFromArray 15 = .ok (.iload_n 2, 1) := dk_28 (dk_at dksJ30_listFromArray_0 15 rfl rfl)
theorem dJ30_listFromArray_16 : decode cJ30_listFromArray 16 = .ok (.aload_n 0, 1) := dk_42 (dk_at dksJ30_listFromArray_0 16 rfl rfl)
theorem dJ30_listFromArray_17 : decode cJ30_listFromArray 17 = .ok (.iload_n 2, 1) := dk_28 (dk_at dksJ30_listFromArray_0 17 rfl rfl)
theorem dJ30_listFromArray_18 : decode cJ30_listFromArray 18 = .ok (.aaload, 1) := dk_50 (dk_at dksJ30_listFromArray_0 18 rfl rfl)
theorem dJ30_listFromArray_19 : decode cJ30_listFromArray 19 = .ok (.invokestatic 37, 3) := dk_184 0 37 (dk_at dksJ30_listFromArray_0 19 rfl rfl)
theorem dJ30_listFromArray_22 : decode cJ30_listFromArray 22 = .ok (.aastore, 1) := dk_83 (dk_at dksJ30_listFromArray_0 22 rfl rfl)
theorem dJ30_listFromArray_23 : decode cJ30_listFromArray 23 = .ok (.iinc 2 1, 3) := dk_132 2 1 (dk_at dksJ30_listFromArray_1 0 rfl rfl)
theorem dJ30_listFromArray_26 : decode cJ30_listFromArray 26 = .ok (.goto (-18), 3) := dk_167 255 238 (dk_at dksJ30_listFromArray_1 3 rfl rfl)
theorem dJ30_listFromArray_29 : decode cJ30_listFromArray 29 = .ok (.new 12, 3) := dk_187 0 12 (dk_at dksJ30_listFromArray_1 6 rfl rfl)
theorem dJ30_listFromArray_32 : decode cJ30_listFromArray 32 = .ok (.dup, 1) := dk_89 (dk_at dksJ30_listFromArray_1 9 rfl rfl)
theorem dJ30_listFromArray_33 : decode cJ30_listFromArray 33 = .ok (.aload_n 1, 1) := dk_43 (dk_at dksJ30_listFromArray_1 10 rfl rfl)
theorem dJ30_listFromArray_34 : decode cJ30_listFromArray 34 = .ok (.iconst 0, 1) := dk_3 (dk_at dksJ30_listFromArray_1 11 rfl rfl)
theorem dJ30_listFromArray_35 : decode cJ30_listFromArray 35 = .ok (.invokespecial 43, 3) := dk_183 0 43 (dk_at dksJ30_listFromArray_1 12 rfl rfl)
theorem dJ30_listFromArray_38 : decode cJ30_listFromArray 38 = .ok (.areturn, 1) := dk_176 (dk_at dksJ30_listFromArray_1 15 rfl rfl)
theorem q125 : (Jvm.Cond.initialized "java/util/ImmutableCollections") ∈ lw_all := lw_g (lw_at lw_m1 42 rfl) rfl
theorem q942 : (Jvm.Cond.laysStatic "java/util/ImmutableCollections" "EMPTY_LIST" "Ljava/util/ImmutableCollections$ListN;") ∈ lw_tbl := lw_at lw_m4 139 rfl
theorem q957 : (Jvm.Cond.laysStatic "java/util/ImmutableCollections" "EMPTY" "Ljava/lang/Object;") ∈ lw_tbl := lw_at lw_m4 154 rfl
theorem q969 : (Jvm.Cond.static ({ cls := "java/util/ImmutableCollections", name := "listFromArray", desc := "([Ljava/lang/Object;)Ljava/util/List;" } : Jvm.MethodName)) ∈ lw_all := lw_g (lw_at lw_m4 166 rfl) rfl
theorem q970 : (Jvm.Cond.code ({ cls := "java/util/ImmutableCollections", name := "listFromArray", desc := "([Ljava/lang/Object;)Ljava/util/List;" } : Jvm.MethodName) prog_57_method_4_code (3 : Nat) (Option.some (Jvm.ClassFile.FieldType.object "java/util/List"))) ∈ lw_all := lw_g (lw_at lw_m4 167 rfl) rfl
theorem q971 : (Jvm.Cond.classLink "java/util/ImmutableCollections" (2 : Nat) "java/lang/Object") ∈ lw_all := lw_g (lw_at lw_m4 168 rfl) rfl
theorem q972 : (Jvm.Cond.methodLink "java/util/ImmutableCollections" (37 : Nat) ({ cls := "java/util/Objects", name := "requireNonNull", desc := "(Ljava/lang/Object;)Ljava/lang/Object;" } : Jvm.MethodName)) ∈ lw_all := lw_g (lw_at lw_m4 169 rfl) rfl
theorem q973 : (Jvm.Cond.classLink "java/util/ImmutableCollections" (12 : Nat) "java/util/ImmutableCollections$ListN") ∈ lw_all := lw_g (lw_at lw_m4 170 rfl) rfl
theorem q975 : (Jvm.Cond.methodLinkNest "java/util/ImmutableCollections" (43 : Nat) ({ cls := "java/util/ImmutableCollections$ListN", name := "<init>", desc := "([Ljava/lang/Object;Z)V" } : Jvm.MethodName) "java/util/ImmutableCollections") ∈ lw_tbl := lw_at lw_m4 172 rfl
/-! java/util/ImmutableCollections$AbstractImmutableCollection -/
set_option maxRecDepth 100000
def RJ31 : String := "java/util/ImmutableCollections$AbstractImmutableCollection"
abbrev cJ31_init : ByteArray := prog_58_method_1_code
def yJ31_init : MethodName := ⟨RJ31, "<init>", "()V"⟩
theorem dJ31_init_0 : decode cJ31_init 0 = .ok (.aload_n 0, 1) := by decide +kernel
theorem dJ31_init_1 : decode cJ31_init 1 = .ok (.invokespecial 1, 3) := by decide +kernel
theorem dJ31_init_4 : decode cJ31_init 4 = .ok (.return_, 1) := by decide +kernel
theorem q126 : (Jvm.Cond.initialized "java/util/ImmutableCollections$AbstractImmutableCollection") ∈ lw_all := lw_g (lw_at lw_m1 43 rfl) rfl
theorem q952 : (Jvm.Cond.instanceMethod ({ cls := "java/util/ImmutableCollections$AbstractImmutableCollection", name := "<init>", desc := "()V" } : Jvm.MethodName)) ∈ lw_all := lw_g (lw_at lw_m4 149 rfl) rfl
theorem q953 : (Jvm.Cond.code ({ cls := "java/util/ImmutableCollections$AbstractImmutableCollection", name := "<init>", desc := "()V" } : Jvm.MethodName) prog_58_method_1_code (1 : Nat) (Option.none : Option Jvm.ClassFile.FieldType)) ∈ lw_all := lw_g (lw_at lw_m4 150 rfl) rfl
theorem q954 : (Jvm.Cond.methodLink "java/util/ImmutableCollections$AbstractImmutableCollection" (1 : Nat) ({ cls := "java/util/AbstractCollection", name := "<init>", desc := "()V" } : Jvm.MethodName)) ∈ lw_all := lw_g (lw_at lw_m4 151 rfl) rfl
/-! java/util/ImmutableCollections$AbstractImmutableList -/
set_option maxRecDepth 100000
def RJ32 : String := "java/util/ImmutableCollections$AbstractImmutableList"
abbrev cJ32_init : ByteArray := prog_59_method_1_code
def yJ32_init : MethodName := ⟨RJ32, "<init>", "()V"⟩
theorem dJ32_init_0 : decode cJ32_init 0 = .ok (.aload_n 0, 1) := by decide +kernel
theorem dJ32_init_1 : decode cJ32_init 1 = .ok (.invokespecial 1, 3) := by decide +kernel
theorem dJ32_init_4 : decode cJ32_init 4 = .ok (.return_, 1) := by decide +kernel
theorem q127 : (Jvm.Cond.initialized "java/util/ImmutableCollections$AbstractImmutableList") ∈ lw_all := lw_g (lw_at lw_m1 44 rfl) rfl
theorem q949 : (Jvm.Cond.instanceMethod ({ cls := "java/util/ImmutableCollections$AbstractImmutableList", name := "<init>", desc := "()V" } : Jvm.MethodName)) ∈ lw_all := lw_g (lw_at lw_m4 146 rfl) rfl
theorem q950 : (Jvm.Cond.code ({ cls := "java/util/ImmutableCollections$AbstractImmutableList", name := "<init>", desc := "()V" } : Jvm.MethodName) prog_59_method_1_code (1 : Nat) (Option.none : Option Jvm.ClassFile.FieldType)) ∈ lw_all := lw_g (lw_at lw_m4 147 rfl) rfl
theorem q951 : (Jvm.Cond.methodLink "java/util/ImmutableCollections$AbstractImmutableList" (1 : Nat) ({ cls := "java/util/ImmutableCollections$AbstractImmutableCollection", name := "<init>", desc := "()V" } : Jvm.MethodName)) ∈ lw_all := lw_g (lw_at lw_m4 148 rfl) rfl
/-! java/util/ImmutableCollections$List12 -/
set_option maxRecDepth 100000
def RJ33 : String := "java/util/ImmutableCollections$List12"
def TJ33 : u_T := fun k => match k with
  | 0 => ("java/util/ImmutableCollections$List12", "e0", "Ljava/lang/Object;", true)
  | _ => ("java/util/ImmutableCollections$List12", "e1", "Ljava/lang/Object;", true)
def tyJ33 : Nat → FieldType := fun k => match k with
  | 0 => .object "java/lang/Object"
  | _ => .object "java/lang/Object"
abbrev wsJ330 : List Cond := u_ws RJ33 TJ33 2
theorem nmJ33 : ∀ a, a < 2 → ∀ b, b < 2 → a ≠ b → (TJ33 a).2.1 ≠ (TJ33 b).2.1 := by decide +kernel
theorem tyJ33_ok : ∀ k, k < 2 → parseFieldDescriptor (TJ33 k).2.2.1 = some (tyJ33 k) := by decide +kernel
abbrev cJ33_init : ByteArray := prog_60_method_1_code
def yJ33_init : MethodName := ⟨RJ33, "<init>", "(Ljava/lang/Object;)V"⟩
def dkwJ33_init_0 : List UInt8 := [42, 183, 0, 1, 42, 43, 184, 0, 7, 181, 0, 13, 42, 178, 0, 19, 181, 0, 24, 177]
abbrev dktJ33_init_0 : List UInt8 := dkwJ33_init_0 ++ []
theorem dksJ33_init_0 : cJ33_init.data.toList.drop 0 = dktJ33_init_0 := by decide +kernel
theorem dJ33_init_0 : decode cJ33_init 0 = .ok (.aload_n 0, 1) := dk_42 (dk_at dksJ33_init_0 0 rfl rfl)
theorem dJ33_init_1 : decode cJ33_init 1 = .ok (.invokespecial 1, 3) := dk_183 0 1 (dk_at dksJ33_init_0 1 rfl rfl)
theorem dJ33_init_4 : decode cJ33_init 4 = .ok (.aload_n 0, 1) := dk_42 (dk_at dksJ33_init_0 4 rfl rfl)
theorem dJ33_init_5 : decode cJ33_init 5 = .ok (.aload_n 1, 1) := dk_43 (dk_at dksJ33_init_0 5 rfl rfl)
theorem dJ33_init_6 : decode cJ33_init 6 = .ok (.invokestatic 7, 3) := dk_184 0 7 (dk_at dksJ33_init_0 6 rfl rfl)
theorem dJ33_init_9 : decode cJ33_init 9 = .ok (.putfield 13, 3) := dk_181 0 13 (dk_at dksJ33_init_0 9 rfl rfl)
theorem dJ33_init_12 : decode cJ33_init 12 = .ok (.aload_n 0, 1) := dk_42 (dk_at dksJ33_init_0 12 rfl rfl)
theorem dJ33_init_13 : decode cJ33_init 13 = .ok (.getstatic 19, 3) := dk_178 0 19 (dk_at dksJ33_init_0 13 rfl rfl)
theorem dJ33_init_16 : decode cJ33_init 16 = .ok (.putfield 24, 3) := dk_181 0 24 (dk_at dksJ33_init_0 16 rfl rfl)
theorem dJ33_init_19 : decode cJ33_init 19 = .ok (.return_, 1) := dk_177 (dk_at dksJ33_init_0 19 rfl rfl)
abbrev cJ33_init_2 : ByteArray := prog_60_method_2_code
def yJ33_init_2 : MethodName := ⟨RJ33, "<init>", "(Ljava/lang/Object;Ljava/lang/Object;)V"⟩
def dkwJ33_init_2_0 : List UInt8 := [42, 183, 0, 1, 42, 43, 184, 0, 7, 181, 0, 13, 42, 44, 184, 0, 7, 181, 0, 24, 177]
abbrev dktJ33_init_2_0 : List UInt8 := dkwJ33_init_2_0 ++ []
theorem dksJ33_init_2_0 : cJ33_init_2.data.toList.drop 0 = dktJ33_init_2_0 := by decide +kernel
theorem dJ33_init_2_0 : decode cJ33_init_2 0 = .ok (.aload_n 0, 1) := dk_42 (dk_at dksJ33_init_2_0 0 rfl rfl)
theorem dJ33_init_2_1 : decode cJ33_init_2 1 = .ok (.invokespecial 1, 3) := dk_183 0 1 (dk_at dksJ33_init_2_0 1 rfl rfl)
theorem dJ33_init_2_4 : decode cJ33_init_2 4 = .ok (.aload_n 0, 1) := dk_42 (dk_at dksJ33_init_2_0 4 rfl rfl)
theorem dJ33_init_2_5 : decode cJ33_init_2 5 = .ok (.aload_n 1, 1) := dk_43 (dk_at dksJ33_init_2_0 5 rfl rfl)
theorem dJ33_init_2_6 : decode cJ33_init_2 6 = .ok (.invokestatic 7, 3) := dk_184 0 7 (dk_at dksJ33_init_2_0 6 rfl rfl)
theorem dJ33_init_2_9 : decode cJ33_init_2 9 = .ok (.putfield 13, 3) := dk_181 0 13 (dk_at dksJ33_init_2_0 9 rfl rfl)
theorem dJ33_init_2_12 : decode cJ33_init_2 12 = .ok (.aload_n 0, 1) := dk_42 (dk_at dksJ33_init_2_0 12 rfl rfl)
theorem dJ33_init_2_13 : decode cJ33_init_2 13 = .ok (.aload_n 2, 1) := dk_44 (dk_at dksJ33_init_2_0 13 rfl rfl)
theorem dJ33_init_2_14 : decode cJ33_init_2 14 = .ok (.invokestatic 7, 3) := dk_184 0 7 (dk_at dksJ33_init_2_0 14 rfl rfl)
theorem dJ33_init_2_17 : decode cJ33_init_2 17 = .ok (.putfield 24, 3) := dk_181 0 24 (dk_at dksJ33_init_2_0 17 rfl rfl)
theorem dJ33_init_2_20 : decode cJ33_init_2 20 = .ok (.return_, 1) := dk_177 (dk_at dksJ33_init_2_0 20 rfl rfl)
theorem q128 : (Jvm.Cond.initialized "java/util/ImmutableCollections$List12") ∈ lw_all := lw_g (lw_at lw_m1 45 rfl) rfl
theorem q524 : (Jvm.Cond.selects "java/util/ImmutableCollections$List12" ({ cls := "java/lang/Object", name := "getClass", desc := "()Ljava/lang/Class;" } : Jvm.MethodName) ({ cls := "java/lang/Object", name := "getClass", desc := "()Ljava/lang/Class;" } : Jvm.MethodName)) ∈ lw_all := lw_g (lw_at lw_m2 201 rfl) rfl
theorem q944 : (Jvm.Cond.instantiable "java/util/ImmutableCollections$List12" (2 : Nat)) ∈ lw_all := lw_g (lw_at lw_m4 141 rfl) rfl
theorem q946 : (Jvm.Cond.instanceMethod ({ cls := "java/util/ImmutableCollections$List12", name := "<init>", desc := "(Ljava/lang/Object;)V" } : Jvm.MethodName)) ∈ lw_all := lw_g (lw_at lw_m4 143 rfl) rfl
theorem q947 : (Jvm.Cond.code ({ cls := "java/util/ImmutableCollections$List12", name := "<init>", desc := "(Ljava/lang/Object;)V" } : Jvm.MethodName) prog_60_method_1_code (2 : Nat) (Option.none : Option Jvm.ClassFile.FieldType)) ∈ lw_all := lw_g (lw_at lw_m4 144 rfl) rfl
theorem q948 : (Jvm.Cond.methodLink "java/util/ImmutableCollections$List12" (1 : Nat) ({ cls := "java/util/ImmutableCollections$AbstractImmutableList", name := "<init>", desc := "()V" } : Jvm.MethodName)) ∈ lw_all := lw_g (lw_at lw_m4 145 rfl) rfl
theorem q955 : (Jvm.Cond.methodLink "java/util/ImmutableCollections$List12" (7 : Nat) ({ cls := "java/util/Objects", name := "requireNonNull", desc := "(Ljava/lang/Object;)Ljava/lang/Object;" } : Jvm.MethodName)) ∈ lw_all := lw_g (lw_at lw_m4 152 rfl) rfl
theorem q956 : (Jvm.Cond.fieldLinkNest "java/util/ImmutableCollections$List12" (19 : Nat) "java/util/ImmutableCollections" "EMPTY" "Ljava/lang/Object;" "java/util/ImmutableCollections") ∈ lw_tbl := lw_at lw_m4 153 rfl
theorem q958 : (Jvm.Cond.fieldLink "java/util/ImmutableCollections$List12" (13 : Nat) "java/util/ImmutableCollections$List12" "e0" "Ljava/lang/Object;") ∈ lw_all := lw_g (lw_at lw_m4 155 rfl) rfl
theorem q959 : (Jvm.Cond.fieldLink "java/util/ImmutableCollections$List12" (24 : Nat) "java/util/ImmutableCollections$List12" "e1" "Ljava/lang/Object;") ∈ lw_all := lw_g (lw_at lw_m4 156 rfl) rfl
theorem q960 : (Jvm.Cond.laysFinal "java/util/ImmutableCollections$List12" "java/util/ImmutableCollections$List12" "e0" "Ljava/lang/Object;") ∈ lw_all := lw_g (lw_at lw_m4 157 rfl) rfl
theorem q961 : (Jvm.Cond.soleField "java/util/ImmutableCollections$List12" "e0") ∈ lw_all := lw_g (lw_at lw_m4 158 rfl) rfl
theorem q962 : (Jvm.Cond.laysFinal "java/util/ImmutableCollections$List12" "java/util/ImmutableCollections$List12" "e1" "Ljava/lang/Object;") ∈ lw_all := lw_g (lw_at lw_m4 159 rfl) rfl
theorem q963 : (Jvm.Cond.soleField "java/util/ImmutableCollections$List12" "e1") ∈ lw_all := lw_g (lw_at lw_m4 160 rfl) rfl
theorem q964 : (Jvm.Cond.superclass "java/util/ImmutableCollections$List12" "java/util/ImmutableCollections$AbstractImmutableList") ∈ lw_all := lw_g (lw_at lw_m4 161 rfl) rfl
theorem q966 : (Jvm.Cond.instanceMethod ({ cls := "java/util/ImmutableCollections$List12", name := "<init>", desc := "(Ljava/lang/Object;Ljava/lang/Object;)V" } : Jvm.MethodName)) ∈ lw_all := lw_g (lw_at lw_m4 163 rfl) rfl
theorem q967 : (Jvm.Cond.code ({ cls := "java/util/ImmutableCollections$List12", name := "<init>", desc := "(Ljava/lang/Object;Ljava/lang/Object;)V" } : Jvm.MethodName) prog_60_method_2_code (3 : Nat) (Option.none : Option Jvm.ClassFile.FieldType)) ∈ lw_all := lw_g (lw_at lw_m4 164 rfl) rfl
theorem q2808 : (Jvm.Cond.castable "java/util/ImmutableCollections$List12" "java/lang/Object") ∈ lw_tbl := lw_at lw_m12 85 rfl
theorem in_J33 : ∀ w ∈ wsJ330, w ∈ lw_all := lw_in wsJ330 [960, 962] (by decide +kernel) (by decide +kernel)
/-! java/util/ImmutableCollections$ListN -/
set_option maxRecDepth 100000
def RJ34 : String := "java/util/ImmutableCollections$ListN"
def TJ34 : u_T := fun k => match k with
  | 0 => ("java/util/ImmutableCollections$ListN", "elements", "[Ljava/lang/Object;", true)
  | _ => ("java/util/ImmutableCollections$ListN", "allowNulls", "Z", true)
def tyJ34 : Nat → FieldType := fun k => match k with
  | 0 => .array (.object "java/lang/Object")
  | _ => .boolean
abbrev wsJ340 : List Cond := u_ws RJ34 TJ34 2
theorem nmJ34 : ∀ a, a < 2 → ∀ b, b < 2 → a ≠ b → (TJ34 a).2.1 ≠ (TJ34 b).2.1 := by decide +kernel
theorem tyJ34_ok : ∀ k, k < 2 → parseFieldDescriptor (TJ34 k).2.2.1 = some (tyJ34 k) := by decide +kernel
abbrev cJ34_init : ByteArray := prog_61_method_1_code
def yJ34_init : MethodName := ⟨RJ34, "<init>", "([Ljava/lang/Object;Z)V"⟩
def dkwJ34_init_0 : List UInt8 := [42, 183, 0, 1, 42, 43, 181, 0, 7, 42, 28, 181, 0, 13, 177]
abbrev dktJ34_init_0 : List UInt8 := dkwJ34_init_0 ++ []
theorem dksJ34_init_0 : cJ34_init.data.toList.drop 0 = dktJ34_init_0 := by decide +kernel
theorem dJ34_init_0 : decode cJ34_init 0 = .ok (.aload_n 0, 1) := dk_42 (dk_at dksJ34_init_0 0 rfl rfl)
theorem dJ34_init_1 : decode cJ34_init 1 = .ok (.invokespecial 1, 3) := dk_183 0 1 (dk_at dksJ34_init_0 1 rfl rfl)
theorem dJ34_init_4 : decode cJ34_init 4 = .ok (.aload_n 0, 1) := dk_42 (dk_at dksJ34_init_0 4 rfl rfl)
theorem dJ34_init_5 : decode cJ34_init 5 = .ok (.aload_n 1, 1) := dk_43 (dk_at dksJ34_init_0 5 rfl rfl)
theorem dJ34_init_6 : decode cJ34_init 6 = .ok (.putfield 7, 3) := dk_181 0 7 (dk_at dksJ34_init_0 6 rfl rfl)
theorem dJ34_init_9 : decode cJ34_init 9 = .ok (.aload_n 0, 1) := dk_42 (dk_at dksJ34_init_0 9 rfl rfl)
theorem dJ34_init_10 : decode cJ34_init 10 = .ok (.iload_n 2, 1) := dk_28 (dk_at dksJ34_init_0 10 rfl rfl)
theorem dJ34_init_11 : decode cJ34_init 11 = .ok (.putfield 13, 3) := dk_181 0 13 (dk_at dksJ34_init_0 11 rfl rfl)
theorem dJ34_init_14 : decode cJ34_init 14 = .ok (.return_, 1) := dk_177 (dk_at dksJ34_init_0 14 rfl rfl)
theorem q129 : (Jvm.Cond.initialized "java/util/ImmutableCollections$ListN") ∈ lw_all := lw_g (lw_at lw_m1 46 rfl) rfl
theorem q525 : (Jvm.Cond.selects "java/util/ImmutableCollections$ListN" ({ cls := "java/lang/Object", name := "getClass", desc := "()Ljava/lang/Class;" } : Jvm.MethodName) ({ cls := "java/lang/Object", name := "getClass", desc := "()Ljava/lang/Class;" } : Jvm.MethodName)) ∈ lw_all := lw_g (lw_at lw_m2 202 rfl) rfl
theorem q974 : (Jvm.Cond.instantiable "java/util/ImmutableCollections$ListN" (2 : Nat)) ∈ lw_all := lw_g (lw_at lw_m4 171 rfl) rfl
theorem q976 : (Jvm.Cond.instanceMethod ({ cls := "java/util/ImmutableCollections$ListN", name := "<init>", desc := "([Ljava/lang/Object;Z)V" } : Jvm.MethodName)) ∈ lw_all := lw_g (lw_at lw_m4 173 rfl) rfl
theorem q977 : (Jvm.Cond.code ({ cls := "java/util/ImmutableCollections$ListN", name := "<init>", desc := "([Ljava/lang/Object;Z)V" } : Jvm.MethodName) prog_61_method_1_code (3 : Nat) (Option.none : Option Jvm.ClassFile.FieldType)) ∈ lw_all := lw_g (lw_at lw_m4 174 rfl) rfl
theorem q978 : (Jvm.Cond.methodLink "java/util/ImmutableCollections$ListN" (1 : Nat) ({ cls := "java/util/ImmutableCollections$AbstractImmutableList", name := "<init>", desc := "()V" } : Jvm.MethodName)) ∈ lw_all := lw_g (lw_at lw_m4 175 rfl) rfl
theorem q979 : (Jvm.Cond.fieldLink "java/util/ImmutableCollections$ListN" (7 : Nat) "java/util/ImmutableCollections$ListN" "elements" "[Ljava/lang/Object;") ∈ lw_all := lw_g (lw_at lw_m4 176 rfl) rfl
theorem q980 : (Jvm.Cond.fieldLink "java/util/ImmutableCollections$ListN" (13 : Nat) "java/util/ImmutableCollections$ListN" "allowNulls" "Z") ∈ lw_all := lw_g (lw_at lw_m4 177 rfl) rfl
theorem q981 : (Jvm.Cond.laysFinal "java/util/ImmutableCollections$ListN" "java/util/ImmutableCollections$ListN" "elements" "[Ljava/lang/Object;") ∈ lw_all := lw_g (lw_at lw_m4 178 rfl) rfl
theorem q982 : (Jvm.Cond.soleField "java/util/ImmutableCollections$ListN" "elements") ∈ lw_all := lw_g (lw_at lw_m4 179 rfl) rfl
theorem q983 : (Jvm.Cond.laysFinal "java/util/ImmutableCollections$ListN" "java/util/ImmutableCollections$ListN" "allowNulls" "Z") ∈ lw_all := lw_g (lw_at lw_m4 180 rfl) rfl
theorem q984 : (Jvm.Cond.soleField "java/util/ImmutableCollections$ListN" "allowNulls") ∈ lw_all := lw_g (lw_at lw_m4 181 rfl) rfl
theorem q985 : (Jvm.Cond.superclass "java/util/ImmutableCollections$ListN" "java/util/ImmutableCollections$AbstractImmutableList") ∈ lw_all := lw_g (lw_at lw_m4 182 rfl) rfl
theorem q2807 : (Jvm.Cond.castable "java/util/ImmutableCollections$ListN" "java/lang/Object") ∈ lw_tbl := lw_at lw_m12 84 rfl
theorem in_J34 : ∀ w ∈ wsJ340, w ∈ lw_all := lw_in wsJ340 [981, 983] (by decide +kernel) (by decide +kernel)
/-! java/lang/StringLatin1 -/
set_option maxRecDepth 100000
def RJ35 : String := "java/lang/StringLatin1"
abbrev cJ35_inflate : ByteArray := prog_38_method_50_code
def yJ35_inflate : MethodName := ⟨RJ35, "inflate", "([BI[BII)V"⟩
def dkwJ35_inflate_0 : List UInt8 := [42, 27, 44, 29, 21, 4, 184, 0, 240, 177]
abbrev dktJ35_inflate_0 : List UInt8 := dkwJ35_inflate_0 ++ []
theorem dksJ35_inflate_0 : cJ35_inflate.data.toList.drop 0 = dktJ35_inflate_0 := by decide +kernel
theorem dJ35_inflate_0 : decode cJ35_inflate 0 = .ok (.aload_n 0, 1) := dk_42 (dk_at dksJ35_inflate_0 0 rfl rfl)
theorem dJ35_inflate_1 : decode cJ35_inflate 1 = .ok (.iload_n 1, 1) := dk_27 (dk_at dksJ35_inflate_0 1 rfl rfl)
theorem dJ35_inflate_2 : decode cJ35_inflate 2 = .ok (.aload_n 2, 1) := dk_44 (dk_at dksJ35_inflate_0 2 rfl rfl)
theorem dJ35_inflate_3 : decode cJ35_inflate 3 = .ok (.iload_n 3, 1) := dk_29 (dk_at dksJ35_inflate_0 3 rfl rfl)
theorem dJ35_inflate_4 : decode cJ35_inflate 4 = .ok (.iload 4, 2) := dk_21 4 (dk_at dksJ35_inflate_0 4 rfl rfl)
theorem dJ35_inflate_6 : decode cJ35_inflate 6 = .ok (.invokestatic 240, 3) := dk_184 0 240 (dk_at dksJ35_inflate_0 6 rfl rfl)
theorem dJ35_inflate_9 : decode cJ35_inflate 9 = .ok (.return_, 1) := dk_177 (dk_at dksJ35_inflate_0 9 rfl rfl)
abbrev cJ35_fillNull : ByteArray := prog_38_method_48_code
def yJ35_fillNull : MethodName := ⟨RJ35, "fillNull", "([BII)V"⟩
def dkwJ35_fillNull_0 : List UInt8 := [42, 27, 28, 3, 184, 0, 236, 177]
abbrev dktJ35_fillNull_0 : List UInt8 := dkwJ35_fillNull_0 ++ []
theorem dksJ35_fillNull_0 : cJ35_fillNull.data.toList.drop 0 = dktJ35_fillNull_0 := by decide +kernel
theorem dJ35_fillNull_0 : decode cJ35_fillNull 0 = .ok (.aload_n 0, 1) := dk_42 (dk_at dksJ35_fillNull_0 0 rfl rfl)
theorem dJ35_fillNull_1 : decode cJ35_fillNull 1 = .ok (.iload_n 1, 1) := dk_27 (dk_at dksJ35_fillNull_0 1 rfl rfl)
theorem dJ35_fillNull_2 : decode cJ35_fillNull 2 = .ok (.iload_n 2, 1) := dk_28 (dk_at dksJ35_fillNull_0 2 rfl rfl)
theorem dJ35_fillNull_3 : decode cJ35_fillNull 3 = .ok (.iconst 0, 1) := dk_3 (dk_at dksJ35_fillNull_0 3 rfl rfl)
theorem dJ35_fillNull_4 : decode cJ35_fillNull 4 = .ok (.invokestatic 236, 3) := dk_184 0 236 (dk_at dksJ35_fillNull_0 4 rfl rfl)
theorem dJ35_fillNull_7 : decode cJ35_fillNull 7 = .ok (.return_, 1) := dk_177 (dk_at dksJ35_fillNull_0 7 rfl rfl)
abbrev cJ35_canEncode : ByteArray := prog_38_method_3_code
def yJ35_canEncode : MethodName := ⟨RJ35, "canEncode", "(C)Z"⟩
def dkwJ35_canEncode_0 : List UInt8 := [26, 17, 0, 255, 163, 0, 7, 4, 167, 0, 4, 3, 172]
abbrev dktJ35_canEncode_0 : List UInt8 := dkwJ35_canEncode_0 ++ []
theorem dksJ35_canEncode_0 : cJ35_canEncode.data.toList.drop 0 = dktJ35_canEncode_0 := by decide +kernel
theorem dJ35_canEncode_0 : decode cJ35_canEncode 0 = .ok (.iload_n 0, 1) := dk_26 (dk_at dksJ35_canEncode_0 0 rfl rfl)
theorem dJ35_canEncode_1 : decode cJ35_canEncode 1 = .ok (.sipush 255, 3) := dk_17 0 255 (dk_at dksJ35_canEncode_0 1 rfl rfl)
theorem dJ35_canEncode_4 : decode cJ35_canEncode 4 = .ok (.if_icmp .gt 7, 3) := dk_163 0 7 (dk_at dksJ35_canEncode_0 4 rfl rfl)
theorem dJ35_canEncode_7 : decode cJ35_canEncode 7 = .ok (.iconst 1, 1) := dk_4 (dk_at dksJ35_canEncode_0 7 rfl rfl)
theorem dJ35_canEncode_8 : decode cJ35_canEncode 8 = .ok (.goto 4, 3) := dk_167 0 4 (dk_at dksJ35_canEncode_0 8 rfl rfl)
theorem dJ35_canEncode_11 : decode cJ35_canEncode 11 = .ok (.iconst 0, 1) := dk_3 (dk_at dksJ35_canEncode_0 11 rfl rfl)
theorem dJ35_canEncode_12 : decode cJ35_canEncode 12 = .ok (.ireturn, 1) := dk_172 (dk_at dksJ35_canEncode_0 12 rfl rfl)
abbrev cJ35_charAt : ByteArray := prog_38_method_2_code
def yJ35_charAt : MethodName := ⟨RJ35, "charAt", "([BI)C"⟩
def dkwJ35_charAt_0 : List UInt8 := [27, 42, 190, 184, 0, 9, 42, 27, 51, 17, 0, 255, 126, 146, 172]
abbrev dktJ35_charAt_0 : List UInt8 := dkwJ35_charAt_0 ++ []
theorem dksJ35_charAt_0 : cJ35_charAt.data.toList.drop 0 = dktJ35_charAt_0 := by decide +kernel
theorem dJ35_charAt_0 : decode cJ35_charAt 0 = .ok (.iload_n 1, 1) := dk_27 (dk_at dksJ35_charAt_0 0 rfl rfl)
theorem dJ35_charAt_1 : decode cJ35_charAt 1 = .ok (.aload_n 0, 1) := dk_42 (dk_at dksJ35_charAt_0 1 rfl rfl)
theorem dJ35_charAt_2 : decode cJ35_charAt 2 = .ok (.arraylength, 1) := dk_190 (dk_at dksJ35_charAt_0 2 rfl rfl)
theorem dJ35_charAt_3 : decode cJ35_charAt 3 = .ok (.invokestatic 9, 3) := dk_184 0 9 (dk_at dksJ35_charAt_0 3 rfl rfl)
theorem dJ35_charAt_6 : decode cJ35_charAt 6 = .ok (.aload_n 0, 1) := dk_42 (dk_at dksJ35_charAt_0 6 rfl rfl)
theorem dJ35_charAt_7 : decode cJ35_charAt 7 = .ok (.iload_n 1, 1) := dk_27 (dk_at dksJ35_charAt_0 7 rfl rfl)
theorem dJ35_charAt_8 : decode cJ35_charAt 8 = .ok (.baload, 1) := dk_51 (dk_at dksJ35_charAt_0 8 rfl rfl)
theorem dJ35_charAt_9 : decode cJ35_charAt 9 = .ok (.sipush 255, 3) := dk_17 0 255 (dk_at dksJ35_charAt_0 9 rfl rfl)
theorem dJ35_charAt_12 : decode cJ35_charAt 12 = .ok (.iand, 1) := dk_126 (dk_at dksJ35_charAt_0 12 rfl rfl)
theorem dJ35_charAt_13 : decode cJ35_charAt 13 = .ok (.i2c, 1) := dk_146 (dk_at dksJ35_charAt_0 13 rfl rfl)
theorem dJ35_charAt_14 : decode cJ35_charAt 14 = .ok (.ireturn, 1) := dk_172 (dk_at dksJ35_charAt_0 14 rfl rfl)
abbrev cJ35_hashCode : ByteArray := prog_38_method_21_code
def yJ35_hashCode : MethodName := ⟨RJ35, "hashCode", "([B)I"⟩
def dkwJ35_hashCode_2 : List UInt8 := [3, 167, 0, 22, 42, 3, 51, 17, 0, 255, 126, 167, 0, 12, 42, 3, 42, 190, 3, 7, 184, 0, 84, 172]
abbrev dktJ35_hashCode_2 : List UInt8 := dkwJ35_hashCode_2 ++ []
def dkwJ35_hashCode_1 : List UInt8 := [171, 0, 0, 0, 0, 40, 0, 0, 0, 2, 0, 0, 0, 0, 0, 0, 0, 26, 0, 0, 0, 1, 0, 0, 0, 30]
abbrev dktJ35_hashCode_1 : List UInt8 := dkwJ35_hashCode_1 ++ dktJ35_hashCode_2
def dkwJ35_hashCode_0 : List UInt8 := [42, 190]
abbrev dktJ35_hashCode_0 : List UInt8 := dkwJ35_hashCode_0 ++ dktJ35_hashCode_1
theorem dksJ35_hashCode_0 : cJ35_hashCode.data.toList.drop 0 = dktJ35_hashCode_0 := by decide +kernel
theorem dksJ35_hashCode_1 : cJ35_hashCode.data.toList.drop 2 = dktJ35_hashCode_1 := dk_seg dksJ35_hashCode_0 2 rfl rfl
theorem dksJ35_hashCode_2 : cJ35_hashCode.data.toList.drop 28 = dktJ35_hashCode_2 := dk_seg dksJ35_hashCode_1 26 rfl rfl
theorem dJ35_hashCode_0 : decode cJ35_hashCode 0 = .ok (.aload_n 0, 1) := dk_42 (dk_at dksJ35_hashCode_0 0 rfl rfl)
theorem dJ35_hashCode_1 : decode cJ35_hashCode 1 = .ok (.arraylength, 1) := dk_190 (dk_at dksJ35_hashCode_0 1 rfl rfl)
theorem dJ35_hashCode_2 : decode cJ35_hashCode 2 = .ok (.lookupswitch 40 #[(0, 26), (1, 30)], 26) := by decide +kernel
theorem dJ35_hashCode_28 : decode cJ35_hashCode 28 = .ok (.iconst 0, 1) := dk_3 (dk_at dksJ35_hashCode_2 0 rfl rfl)
theorem dJ35_hashCode_29 : decode cJ35_hashCode 29 = .ok (.goto 22, 3) := dk_167 0 22 (dk_at dksJ35_hashCode_2 1 rfl rfl)
theorem dJ35_hashCode_32 : decode cJ35_hashCode 32 = .ok (.aload_n 0, 1) := dk_42 (dk_at dksJ35_hashCode_2 4 rfl rfl)
theorem dJ35_hashCode_33 : decode cJ35_hashCode 33 = .ok (.iconst 0, 1) := dk_3 (dk_at dksJ35_hashCode_2 5 rfl rfl)
theorem dJ35_hashCode_34 : decode cJ35_hashCode 34 = .ok (.baload, 1) := dk_51 (dk_at dksJ35_hashCode_2 6 rfl rfl)
theorem dJ35_hashCode_35 : decode cJ35_hashCode 35 = .ok (.sipush 255, 3) := dk_17 0 255 (dk_at dksJ35_hashCode_2 7 rfl rfl)
theorem dJ35_hashCode_38 : decode cJ35_hashCode 38 = .ok (.iand, 1) := dk_126 (dk_at dksJ35_hashCode_2 10 rfl rfl)
theorem dJ35_hashCode_39 : decode cJ35_hashCode 39 = .ok (.goto 12, 3) := dk_167 0 12 (dk_at dksJ35_hashCode_2 11 rfl rfl)
theorem dJ35_hashCode_42 : decode cJ35_hashCode 42 = .ok (.aload_n 0, 1) := dk_42 (dk_at dksJ35_hashCode_2 14 rfl rfl)
theorem dJ35_hashCode_43 : decode cJ35_hashCode 43 = .ok (.iconst 0, 1) := dk_3 (dk_at dksJ35_hashCode_2 15 rfl rfl)
theorem dJ35_hashCode_44 : decode cJ35_hashCode 44 = .ok (.aload_n 0, 1) := dk_42 (dk_at dksJ35_hashCode_2 16 rfl rfl)
theorem dJ35_hashCode_45 : decode cJ35_hashCode 45 = .ok (.arraylength, 1) := dk_190 (dk_at dksJ35_hashCode_2 17 rfl rfl)
theorem dJ35_hashCode_46 : decode cJ35_hashCode 46 = .ok (.iconst 0, 1) := dk_3 (dk_at dksJ35_hashCode_2 18 rfl rfl)
theorem dJ35_hashCode_47 : decode cJ35_hashCode 47 = .ok (.iconst 4, 1) := dk_7 (dk_at dksJ35_hashCode_2 19 rfl rfl)
theorem dJ35_hashCode_48 : decode cJ35_hashCode 48 = .ok (.invokestatic 84, 3) := dk_184 0 84 (dk_at dksJ35_hashCode_2 20 rfl rfl)
theorem dJ35_hashCode_51 : decode cJ35_hashCode 51 = .ok (.ireturn, 1) := dk_172 (dk_at dksJ35_hashCode_2 23 rfl rfl)
abbrev cJ35_equals : ByteArray := prog_38_method_13_code
def yJ35_equals : MethodName := ⟨RJ35, "equals", "([B[B)Z"⟩
def dkwJ35_equals_1 : List UInt8 := [3, 172, 132, 2, 1, 167, 255, 236, 4, 172, 3, 172]
abbrev dktJ35_equals_1 : List UInt8 := dkwJ35_equals_1 ++ []
def dkwJ35_equals_0 : List UInt8 := [42, 190, 43, 190, 160, 0, 30, 3, 61, 28, 42, 190, 162, 0, 20, 42, 28, 51, 43, 28, 51, 159, 0, 5]
abbrev dktJ35_equals_0 : List UInt8 := dkwJ35_equals_0 ++ dktJ35_equals_1
theorem dksJ35_equals_0 : cJ35_equals.data.toList.drop 0 = dktJ35_equals_0 := by decide +kernel
theorem dksJ35_equals_1 : cJ35_equals.data.toList.drop 24 = dktJ35_equals_1 := dk_seg dksJ35_equals_0 24 rfl rfl
theorem dJ35_equals_0 : decode cJ35_equals 0 = .ok (.aload_n 0, 1) := dk_42 (dk_at dksJ35_equals_0 0 rfl rfl)
theorem dJ35_equals_1 : decode cJ35_equals 1 = .ok (.arraylength, 1) := dk_190 (dk_at dksJ35_equals_0 1 rfl rfl)
theorem dJ35_equals_2 : decode cJ35_equals 2 = .ok (.aload_n 1, 1) := dk_43 (dk_at dksJ35_equals_0 2 rfl rfl)
theorem dJ35_equals_3 : decode cJ35_equals 3 = .ok (.arraylength, 1) := dk_190 (dk_at dksJ35_equals_0 3 rfl rfl)
theorem dJ35_equals_4 : decode cJ35_equals 4 = .ok (.if_icmp .ne 30, 3) := dk_160 0 30 (dk_at dksJ35_equals_0 4 rfl rfl)
theorem dJ35_equals_7 : decode cJ35_equals 7 = .ok (.iconst 0, 1) := dk_3 (dk_at dksJ35_equals_0 7 rfl rfl)
theorem dJ35_equals_8 : decode cJ35_equals 8 = .ok (.istore_n 2, 1) := dk_61 (dk_at dksJ35_equals_0 8 rfl rfl)
theorem dJ35_equals_9 : decode cJ35_equals 9 = .ok (.iload_n 2, 1) := dk_28 (dk_at dksJ35_equals_0 9 rfl rfl)
theorem dJ35_equals_10 : decode cJ35_equals 10 = .ok (.aload_n 0, 1) := dk_42 (dk_at dksJ35_equals_0 10 rfl rfl)
theorem dJ35_equals_11 : decode cJ35_equals 11 = .ok (.arraylength, 1) := dk_190 (dk_at dksJ35_equals_0 11 rfl rfl)
theorem dJ35_equals_12 : decode cJ35_equals 12 = .ok (.if_icmp .ge 20, 3) := dk_162 0 20 (dk_at dksJ35_equals_0 12 rfl rfl)
theorem dJ35_equals_15 : decode cJ35_equals 15 = .ok (.aload_n 0, 1) := dk_42 (dk_at dksJ35_equals_0 15 rfl rfl)
theorem dJ35_equals_16 : decode cJ35_equals 16 = .ok (.iload_n 2, 1) := dk_28 (dk_at dksJ35_equals_0 16 rfl rfl)
theorem dJ35_equals_17 : decode cJ35_equals 17 = .ok (.baload, 1) := dk_51 (dk_at dksJ35_equals_0 17 rfl rfl)
theorem dJ35_equals_18 : decode cJ35_equals 18 = .ok (.aload_n 1, 1) := dk_43 (dk_at dksJ35_equals_0 18 rfl rfl)
theorem dJ35_equals_19 : decode cJ35_equals 19 = .ok (.iload_n 2, 1) := dk_28 (dk_at dksJ35_equals_0 19 rfl rfl)
theorem dJ35_equals_20 : decode cJ35_equals 20 = .ok (.baload, 1) := dk_51 (dk_at dksJ35_equals_0 20 rfl rfl)
theorem dJ35_equals_21 : decode cJ35_equals 21 = .ok (.if_icmp .eq 5, 3) := dk_159 0 5 (dk_at dksJ35_equals_0 21 rfl rfl)
theorem dJ35_equals_24 : decode cJ35_equals 24 = .ok (.iconst 0, 1) := dk_3 (dk_at dksJ35_equals_1 0 rfl rfl)
theorem dJ35_equals_25 : decode cJ35_equals 25 = .ok (.ireturn, 1) := dk_172 (dk_at dksJ35_equals_1 1 rfl rfl)
theorem dJ35_equals_26 : decode cJ35_equals 26 = .ok (.iinc 2 1, 3) := dk_132 2 1 (dk_at dksJ35_equals_1 2 rfl rfl)
theorem dJ35_equals_29 : decode cJ35_equals 29 = .ok (.goto (-20), 3) := dk_167 255 236 (dk_at dksJ35_equals_1 5 rfl rfl)
theorem dJ35_equals_32 : decode cJ35_equals 32 = .ok (.iconst 1, 1) := dk_4 (dk_at dksJ35_equals_1 8 rfl rfl)
theorem dJ35_equals_33 : decode cJ35_equals 33 = .ok (.ireturn, 1) := dk_172 (dk_at dksJ35_equals_1 9 rfl rfl)
theorem dJ35_equals_34 : decode cJ35_equals 34 = .ok (.iconst 0, 1) := dk_3 (dk_at dksJ35_equals_1 10 rfl rfl)
theorem dJ35_equals_35 : decode cJ35_equals 35 = .ok (.ireturn, 1) := dk_172 (dk_at dksJ35_equals_1 11 rfl rfl)
theorem q130 : (Jvm.Cond.initialized "java/lang/StringLatin1") ∈ lw_all := lw_g (lw_at lw_m1 47 rfl) rfl
theorem q1041 : (Jvm.Cond.static ({ cls := "java/lang/StringLatin1", name := "inflate", desc := "([BI[BII)V" } : Jvm.MethodName)) ∈ lw_all := lw_g (lw_at lw_m4 238 rfl) rfl
theorem q1042 : (Jvm.Cond.code ({ cls := "java/lang/StringLatin1", name := "inflate", desc := "([BI[BII)V" } : Jvm.MethodName) prog_38_method_50_code (5 : Nat) (Option.none : Option Jvm.ClassFile.FieldType)) ∈ lw_all := lw_g (lw_at lw_m4 239 rfl) rfl
theorem q1043 : (Jvm.Cond.methodLink "java/lang/StringLatin1" (240 : Nat) ({ cls := "java/lang/StringUTF16", name := "inflate", desc := "([BI[BII)V" } : Jvm.MethodName)) ∈ lw_all := lw_g (lw_at lw_m5 0 rfl) rfl
theorem q1182 : (Jvm.Cond.static ({ cls := "java/lang/StringLatin1", name := "fillNull", desc := "([BII)V" } : Jvm.MethodName)) ∈ lw_all := lw_g (lw_at lw_m5 139 rfl) rfl
theorem q1183 : (Jvm.Cond.code ({ cls := "java/lang/StringLatin1", name := "fillNull", desc := "([BII)V" } : Jvm.MethodName) prog_38_method_48_code (3 : Nat) (Option.none : Option Jvm.ClassFile.FieldType)) ∈ lw_all := lw_g (lw_at lw_m5 140 rfl) rfl
theorem q1184 : (Jvm.Cond.methodLink "java/lang/StringLatin1" (236 : Nat) ({ cls := "java/util/Arrays", name := "fill", desc := "([BIIB)V" } : Jvm.MethodName)) ∈ lw_all := lw_g (lw_at lw_m5 141 rfl) rfl
theorem q1650 : (Jvm.Cond.static ({ cls := "java/lang/StringLatin1", name := "canEncode", desc := "(C)Z" } : Jvm.MethodName)) ∈ lw_all := lw_g (lw_at lw_m7 127 rfl) rfl
theorem q1651 : (Jvm.Cond.code ({ cls := "java/lang/StringLatin1", name := "canEncode", desc := "(C)Z" } : Jvm.MethodName) prog_38_method_3_code (1 : Nat) (Option.some Jvm.ClassFile.FieldType.boolean)) ∈ lw_all := lw_g (lw_at lw_m7 128 rfl) rfl
theorem q1778 : (Jvm.Cond.static ({ cls := "java/lang/StringLatin1", name := "charAt", desc := "([BI)C" } : Jvm.MethodName)) ∈ lw_all := lw_g (lw_at lw_m8 15 rfl) rfl
theorem q1779 : (Jvm.Cond.code ({ cls := "java/lang/StringLatin1", name := "charAt", desc := "([BI)C" } : Jvm.MethodName) prog_38_method_2_code (2 : Nat) (Option.some Jvm.ClassFile.FieldType.char)) ∈ lw_all := lw_g (lw_at lw_m8 16 rfl) rfl
theorem q1780 : (Jvm.Cond.methodLink "java/lang/StringLatin1" (9 : Nat) ({ cls := "java/lang/String", name := "checkIndex", desc := "(II)V" } : Jvm.MethodName)) ∈ lw_all := lw_g (lw_at lw_m8 17 rfl) rfl
theorem q2115 : (Jvm.Cond.static ({ cls := "java/lang/StringLatin1", name := "hashCode", desc := "([B)I" } : Jvm.MethodName)) ∈ lw_all := lw_g (lw_at lw_m9 112 rfl) rfl
theorem q2116 : (Jvm.Cond.code ({ cls := "java/lang/StringLatin1", name := "hashCode", desc := "([B)I" } : Jvm.MethodName) prog_38_method_21_code (1 : Nat) (Option.some Jvm.ClassFile.FieldType.int)) ∈ lw_all := lw_g (lw_at lw_m9 113 rfl) rfl
theorem q2117 : (Jvm.Cond.methodLink "java/lang/StringLatin1" (84 : Nat) ({ cls := "jdk/internal/util/ArraysSupport", name := "vectorizedHashCode", desc := "(Ljava/lang/Object;IIII)I" } : Jvm.MethodName)) ∈ lw_all := lw_g (lw_at lw_m9 114 rfl) rfl
theorem q2174 : (Jvm.Cond.static ({ cls := "java/lang/StringLatin1", name := "equals", desc := "([B[B)Z" } : Jvm.MethodName)) ∈ lw_all := lw_g (lw_at lw_m9 171 rfl) rfl
theorem q2175 : (Jvm.Cond.code ({ cls := "java/lang/StringLatin1", name := "equals", desc := "([B[B)Z" } : Jvm.MethodName) prog_38_method_13_code (3 : Nat) (Option.some Jvm.ClassFile.FieldType.boolean)) ∈ lw_all := lw_g (lw_at lw_m9 172 rfl) rfl
/-! java/lang/ClassCastException -/
set_option maxRecDepth 100000
def RJ36 : String := "java/lang/ClassCastException"
def TJ36 : u_T := fun k => match k with
  | 0 => ("java/lang/Throwable", "backtrace", "Ljava/lang/Object;", false)
  | 1 => ("java/lang/Throwable", "detailMessage", "Ljava/lang/String;", false)
  | 2 => ("java/lang/Throwable", "cause", "Ljava/lang/Throwable;", false)
  | 3 => ("java/lang/Throwable", "stackTrace", "[Ljava/lang/StackTraceElement;", false)
  | 4 => ("java/lang/Throwable", "depth", "I", false)
  | _ => ("java/lang/Throwable", "suppressedExceptions", "Ljava/util/List;", false)
def tyJ36 : Nat → FieldType := fun k => match k with
  | 0 => .object "java/lang/Object"
  | 1 => .object "java/lang/String"
  | 2 => .object "java/lang/Throwable"
  | 3 => .array (.object "java/lang/StackTraceElement")
  | 4 => .int
  | _ => .object "java/util/List"
abbrev wsJ360 : List Cond := u_ws RJ36 TJ36 6
theorem nmJ36 : ∀ a, a < 6 → ∀ b, b < 6 → a ≠ b → (TJ36 a).2.1 ≠ (TJ36 b).2.1 := by decide +kernel
theorem tyJ36_ok : ∀ k, k < 6 → parseFieldDescriptor (TJ36 k).2.2.1 = some (tyJ36 k) := by decide +kernel
abbrev cJ36_init : ByteArray := prog_20_method_2_code
def yJ36_init : MethodName := ⟨RJ36, "<init>", "(Ljava/lang/String;)V"⟩
def dkwJ36_init_0 : List UInt8 := [42, 43, 183, 0, 7, 177]
abbrev dktJ36_init_0 : List UInt8 := dkwJ36_init_0 ++ []
theorem dksJ36_init_0 : cJ36_init.data.toList.drop 0 = dktJ36_init_0 := by decide +kernel
theorem dJ36_init_0 : decode cJ36_init 0 = .ok (.aload_n 0, 1) := dk_42 (dk_at dksJ36_init_0 0 rfl rfl)
theorem dJ36_init_1 : decode cJ36_init 1 = .ok (.aload_n 1, 1) := dk_43 (dk_at dksJ36_init_0 1 rfl rfl)
theorem dJ36_init_2 : decode cJ36_init 2 = .ok (.invokespecial 7, 3) := dk_183 0 7 (dk_at dksJ36_init_0 2 rfl rfl)
theorem dJ36_init_5 : decode cJ36_init 5 = .ok (.return_, 1) := dk_177 (dk_at dksJ36_init_0 5 rfl rfl)
theorem q131 : (Jvm.Cond.initialized "java/lang/ClassCastException") ∈ lw_all := lw_g (lw_at lw_m1 48 rfl) rfl
theorem q316 : (Jvm.Cond.selects "java/lang/ClassCastException" ({ cls := "java/lang/Throwable", name := "fillInStackTrace", desc := "()Ljava/lang/Throwable;" } : Jvm.MethodName) ({ cls := "java/lang/Throwable", name := "fillInStackTrace", desc := "()Ljava/lang/Throwable;" } : Jvm.MethodName)) ∈ lw_all := lw_g (lw_at lw_m1 233 rfl) rfl
theorem q509 : (Jvm.Cond.selects "java/lang/ClassCastException" ({ cls := "java/lang/Object", name := "getClass", desc := "()Ljava/lang/Class;" } : Jvm.MethodName) ({ cls := "java/lang/Object", name := "getClass", desc := "()Ljava/lang/Class;" } : Jvm.MethodName)) ∈ lw_all := lw_g (lw_at lw_m2 186 rfl) rfl
theorem q1707 : (Jvm.Cond.instantiable "java/lang/ClassCastException" (6 : Nat)) ∈ lw_all := lw_g (lw_at lw_m7 184 rfl) rfl
theorem q1708 : (Jvm.Cond.instanceMethod ({ cls := "java/lang/ClassCastException", name := "<init>", desc := "(Ljava/lang/String;)V" } : Jvm.MethodName)) ∈ lw_all := lw_g (lw_at lw_m7 185 rfl) rfl
theorem q1709 : (Jvm.Cond.code ({ cls := "java/lang/ClassCastException", name := "<init>", desc := "(Ljava/lang/String;)V" } : Jvm.MethodName) prog_20_method_2_code (2 : Nat) (Option.none : Option Jvm.ClassFile.FieldType)) ∈ lw_all := lw_g (lw_at lw_m7 186 rfl) rfl
theorem q1710 : (Jvm.Cond.methodLink "java/lang/ClassCastException" (7 : Nat) ({ cls := "java/lang/RuntimeException", name := "<init>", desc := "(Ljava/lang/String;)V" } : Jvm.MethodName)) ∈ lw_all := lw_g (lw_at lw_m7 187 rfl) rfl
theorem q1711 : (Jvm.Cond.lays "java/lang/ClassCastException" "java/lang/Throwable" "backtrace" "Ljava/lang/Object;") ∈ lw_all := lw_g (lw_at lw_m7 188 rfl) rfl
theorem q1712 : (Jvm.Cond.lays "java/lang/ClassCastException" "java/lang/Throwable" "detailMessage" "Ljava/lang/String;") ∈ lw_all := lw_g (lw_at lw_m7 189 rfl) rfl
theorem q1713 : (Jvm.Cond.lays "java/lang/ClassCastException" "java/lang/Throwable" "cause" "Ljava/lang/Throwable;") ∈ lw_all := lw_g (lw_at lw_m7 190 rfl) rfl
theorem q1714 : (Jvm.Cond.lays "java/lang/ClassCastException" "java/lang/Throwable" "stackTrace" "[Ljava/lang/StackTraceElement;") ∈ lw_all := lw_g (lw_at lw_m7 191 rfl) rfl
theorem q1715 : (Jvm.Cond.lays "java/lang/ClassCastException" "java/lang/Throwable" "depth" "I") ∈ lw_all := lw_g (lw_at lw_m7 192 rfl) rfl
theorem q1716 : (Jvm.Cond.lays "java/lang/ClassCastException" "java/lang/Throwable" "suppressedExceptions" "Ljava/util/List;") ∈ lw_all := lw_g (lw_at lw_m7 193 rfl) rfl
theorem q1717 : (Jvm.Cond.superclass "java/lang/ClassCastException" "java/lang/RuntimeException") ∈ lw_all := lw_g (lw_at lw_m7 194 rfl) rfl
theorem q1718 : (Jvm.Cond.castable "java/lang/ClassCastException" "java/lang/ClassCastException") ∈ lw_tbl := lw_at lw_m7 195 rfl
theorem q1719 : (Jvm.Cond.selects "java/lang/ClassCastException" ({ cls := "java/lang/Throwable", name := "fillInStackTrace", desc := "(I)Ljava/lang/Throwable;" } : Jvm.MethodName) ({ cls := "java/lang/Throwable", name := "fillInStackTrace", desc := "(I)Ljava/lang/Throwable;" } : Jvm.MethodName)) ∈ lw_all := lw_g (lw_at lw_m7 196 rfl) rfl
theorem q2033 : (Jvm.Cond.selects "java/lang/ClassCastException" ({ cls := "java/lang/Throwable", name := "toString", desc := "()Ljava/lang/String;" } : Jvm.MethodName) ({ cls := "java/lang/Throwable", name := "toString", desc := "()Ljava/lang/String;" } : Jvm.MethodName)) ∈ lw_all := lw_g (lw_at lw_m9 30 rfl) rfl
theorem q2052 : (Jvm.Cond.selects "java/lang/ClassCastException" ({ cls := "java/lang/Throwable", name := "getLocalizedMessage", desc := "()Ljava/lang/String;" } : Jvm.MethodName) ({ cls := "java/lang/Throwable", name := "getLocalizedMessage", desc := "()Ljava/lang/String;" } : Jvm.MethodName)) ∈ lw_all := lw_g (lw_at lw_m9 49 rfl) rfl
theorem q2070 : (Jvm.Cond.selects "java/lang/ClassCastException" ({ cls := "java/lang/Throwable", name := "getMessage", desc := "()Ljava/lang/String;" } : Jvm.MethodName) ({ cls := "java/lang/Throwable", name := "getMessage", desc := "()Ljava/lang/String;" } : Jvm.MethodName)) ∈ lw_all := lw_g (lw_at lw_m9 67 rfl) rfl
theorem q2774 : (Jvm.Cond.castable "java/lang/ClassCastException" "java/lang/RuntimeException") ∈ lw_tbl := lw_at lw_m12 51 rfl
theorem q2810 : (Jvm.Cond.castable "java/lang/ClassCastException" "java/lang/Object") ∈ lw_tbl := lw_at lw_m12 87 rfl
theorem in_J36 : ∀ w ∈ wsJ360, w ∈ lw_all := lw_in wsJ360 [1711, 1712, 1713, 1714, 1715, 1716] (by decide +kernel) (by decide +kernel)
/-! java/lang/ArrayStoreException -/
set_option maxRecDepth 100000
def RJ37 : String := "java/lang/ArrayStoreException"
def TJ37 : u_T := fun k => match k with
  | 0 => ("java/lang/Throwable", "backtrace", "Ljava/lang/Object;", false)
  | 1 => ("java/lang/Throwable", "detailMessage", "Ljava/lang/String;", false)
  | 2 => ("java/lang/Throwable", "cause", "Ljava/lang/Throwable;", false)
  | 3 => ("java/lang/Throwable", "stackTrace", "[Ljava/lang/StackTraceElement;", false)
  | 4 => ("java/lang/Throwable", "depth", "I", false)
  | _ => ("java/lang/Throwable", "suppressedExceptions", "Ljava/util/List;", false)
def tyJ37 : Nat → FieldType := fun k => match k with
  | 0 => .object "java/lang/Object"
  | 1 => .object "java/lang/String"
  | 2 => .object "java/lang/Throwable"
  | 3 => .array (.object "java/lang/StackTraceElement")
  | 4 => .int
  | _ => .object "java/util/List"
abbrev wsJ370 : List Cond := u_ws RJ37 TJ37 6
theorem nmJ37 : ∀ a, a < 6 → ∀ b, b < 6 → a ≠ b → (TJ37 a).2.1 ≠ (TJ37 b).2.1 := by decide +kernel
theorem tyJ37_ok : ∀ k, k < 6 → parseFieldDescriptor (TJ37 k).2.2.1 = some (tyJ37 k) := by decide +kernel
abbrev cJ37_init : ByteArray := prog_18_method_2_code
def yJ37_init : MethodName := ⟨RJ37, "<init>", "(Ljava/lang/String;)V"⟩
def dkwJ37_init_0 : List UInt8 := [42, 43, 183, 0, 7, 177]
abbrev dktJ37_init_0 : List UInt8 := dkwJ37_init_0 ++ []
theorem dksJ37_init_0 : cJ37_init.data.toList.drop 0 = dktJ37_init_0 := by decide +kernel
theorem dJ37_init_0 : decode cJ37_init 0 = .ok (.aload_n 0, 1) := dk_42 (dk_at dksJ37_init_0 0 rfl rfl)
theorem dJ37_init_1 : decode cJ37_init 1 = .ok (.aload_n 1, 1) := dk_43 (dk_at dksJ37_init_0 1 rfl rfl)
theorem dJ37_init_2 : decode cJ37_init 2 = .ok (.invokespecial 7, 3) := dk_183 0 7 (dk_at dksJ37_init_0 2 rfl rfl)
theorem dJ37_init_5 : decode cJ37_init 5 = .ok (.return_, 1) := dk_177 (dk_at dksJ37_init_0 5 rfl rfl)
theorem q132 : (Jvm.Cond.initialized "java/lang/ArrayStoreException") ∈ lw_all := lw_g (lw_at lw_m1 49 rfl) rfl
theorem q315 : (Jvm.Cond.selects "java/lang/ArrayStoreException" ({ cls := "java/lang/Throwable", name := "fillInStackTrace", desc := "()Ljava/lang/Throwable;" } : Jvm.MethodName) ({ cls := "java/lang/Throwable", name := "fillInStackTrace", desc := "()Ljava/lang/Throwable;" } : Jvm.MethodName)) ∈ lw_all := lw_g (lw_at lw_m1 232 rfl) rfl
theorem q508 : (Jvm.Cond.selects "java/lang/ArrayStoreException" ({ cls := "java/lang/Object", name := "getClass", desc := "()Ljava/lang/Class;" } : Jvm.MethodName) ({ cls := "java/lang/Object", name := "getClass", desc := "()Ljava/lang/Class;" } : Jvm.MethodName)) ∈ lw_all := lw_g (lw_at lw_m2 185 rfl) rfl
theorem q1723 : (Jvm.Cond.instantiable "java/lang/ArrayStoreException" (6 : Nat)) ∈ lw_all := lw_g (lw_at lw_m7 200 rfl) rfl
theorem q1724 : (Jvm.Cond.instanceMethod ({ cls := "java/lang/ArrayStoreException", name := "<init>", desc := "(Ljava/lang/String;)V" } : Jvm.MethodName)) ∈ lw_all := lw_g (lw_at lw_m7 201 rfl) rfl
theorem q1725 : (Jvm.Cond.code ({ cls := "java/lang/ArrayStoreException", name := "<init>", desc := "(Ljava/lang/String;)V" } : Jvm.MethodName) prog_18_method_2_code (2 : Nat) (Option.none : Option Jvm.ClassFile.FieldType)) ∈ lw_all := lw_g (lw_at lw_m7 202 rfl) rfl
theorem q1726 : (Jvm.Cond.methodLink "java/lang/ArrayStoreException" (7 : Nat) ({ cls := "java/lang/RuntimeException", name := "<init>", desc := "(Ljava/lang/String;)V" } : Jvm.MethodName)) ∈ lw_all := lw_g (lw_at lw_m7 203 rfl) rfl
theorem q1727 : (Jvm.Cond.lays "java/lang/ArrayStoreException" "java/lang/Throwable" "backtrace" "Ljava/lang/Object;") ∈ lw_all := lw_g (lw_at lw_m7 204 rfl) rfl
theorem q1728 : (Jvm.Cond.lays "java/lang/ArrayStoreException" "java/lang/Throwable" "detailMessage" "Ljava/lang/String;") ∈ lw_all := lw_g (lw_at lw_m7 205 rfl) rfl
theorem q1729 : (Jvm.Cond.lays "java/lang/ArrayStoreException" "java/lang/Throwable" "cause" "Ljava/lang/Throwable;") ∈ lw_all := lw_g (lw_at lw_m7 206 rfl) rfl
theorem q1730 : (Jvm.Cond.lays "java/lang/ArrayStoreException" "java/lang/Throwable" "stackTrace" "[Ljava/lang/StackTraceElement;") ∈ lw_all := lw_g (lw_at lw_m7 207 rfl) rfl
theorem q1731 : (Jvm.Cond.lays "java/lang/ArrayStoreException" "java/lang/Throwable" "depth" "I") ∈ lw_all := lw_g (lw_at lw_m7 208 rfl) rfl
theorem q1732 : (Jvm.Cond.lays "java/lang/ArrayStoreException" "java/lang/Throwable" "suppressedExceptions" "Ljava/util/List;") ∈ lw_all := lw_g (lw_at lw_m7 209 rfl) rfl
theorem q1733 : (Jvm.Cond.superclass "java/lang/ArrayStoreException" "java/lang/RuntimeException") ∈ lw_all := lw_g (lw_at lw_m7 210 rfl) rfl
theorem q1734 : (Jvm.Cond.castable "java/lang/ArrayStoreException" "java/lang/ArrayStoreException") ∈ lw_tbl := lw_at lw_m7 211 rfl
theorem q1735 : (Jvm.Cond.selects "java/lang/ArrayStoreException" ({ cls := "java/lang/Throwable", name := "fillInStackTrace", desc := "(I)Ljava/lang/Throwable;" } : Jvm.MethodName) ({ cls := "java/lang/Throwable", name := "fillInStackTrace", desc := "(I)Ljava/lang/Throwable;" } : Jvm.MethodName)) ∈ lw_all := lw_g (lw_at lw_m7 212 rfl) rfl
theorem q2032 : (Jvm.Cond.selects "java/lang/ArrayStoreException" ({ cls := "java/lang/Throwable", name := "toString", desc := "()Ljava/lang/String;" } : Jvm.MethodName) ({ cls := "java/lang/Throwable", name := "toString", desc := "()Ljava/lang/String;" } : Jvm.MethodName)) ∈ lw_all := lw_g (lw_at lw_m9 29 rfl) rfl
theorem q2051 : (Jvm.Cond.selects "java/lang/ArrayStoreException" ({ cls := "java/lang/Throwable", name := "getLocalizedMessage", desc := "()Ljava/lang/String;" } : Jvm.MethodName) ({ cls := "java/lang/Throwable", name := "getLocalizedMessage", desc := "()Ljava/lang/String;" } : Jvm.MethodName)) ∈ lw_all := lw_g (lw_at lw_m9 48 rfl) rfl
theorem q2069 : (Jvm.Cond.selects "java/lang/ArrayStoreException" ({ cls := "java/lang/Throwable", name := "getMessage", desc := "()Ljava/lang/String;" } : Jvm.MethodName) ({ cls := "java/lang/Throwable", name := "getMessage", desc := "()Ljava/lang/String;" } : Jvm.MethodName)) ∈ lw_all := lw_g (lw_at lw_m9 66 rfl) rfl
theorem q2773 : (Jvm.Cond.castable "java/lang/ArrayStoreException" "java/lang/RuntimeException") ∈ lw_tbl := lw_at lw_m12 50 rfl
theorem q2811 : (Jvm.Cond.castable "java/lang/ArrayStoreException" "java/lang/Object") ∈ lw_tbl := lw_at lw_m12 88 rfl
theorem in_J37 : ∀ w ∈ wsJ370, w ∈ lw_all := lw_in wsJ370 [1727, 1728, 1729, 1730, 1731, 1732] (by decide +kernel) (by decide +kernel)
/-! java/util/LinkedList$Node -/
set_option maxRecDepth 100000
def RJ38 : String := "java/util/LinkedList$Node"
def TJ38 : u_T := fun k => match k with
  | 0 => ("java/util/LinkedList$Node", "item", "Ljava/lang/Object;", false)
  | 1 => ("java/util/LinkedList$Node", "next", "Ljava/util/LinkedList$Node;", false)
  | _ => ("java/util/LinkedList$Node", "prev", "Ljava/util/LinkedList$Node;", false)
def tyJ38 : Nat → FieldType := fun k => match k with
  | 0 => .object "java/lang/Object"
  | 1 => .object "java/util/LinkedList$Node"
  | _ => .object "java/util/LinkedList$Node"
abbrev wsJ380 : List Cond := u_ws RJ38 TJ38 3
theorem nmJ38 : ∀ a, a < 3 → ∀ b, b < 3 → a ≠ b → (TJ38 a).2.1 ≠ (TJ38 b).2.1 := by decide +kernel
theorem tyJ38_ok : ∀ k, k < 3 → parseFieldDescriptor (TJ38 k).2.2.1 = some (tyJ38 k) := by decide +kernel
abbrev cJ38_init : ByteArray := prog_65_method_1_code
def yJ38_init : MethodName := ⟨RJ38, "<init>", "(Ljava/util/LinkedList$Node;Ljava/lang/Object;Ljava/util/LinkedList$Node;)V"⟩
def dkwJ38_init_0 : List UInt8 := [42, 183, 0, 1, 42, 44, 181, 0, 7, 42, 45, 181, 0, 13, 42, 43, 181, 0, 17, 177]
abbrev dktJ38_init_0 : List UInt8 := dkwJ38_init_0 ++ []
theorem dksJ38_init_0 : cJ38_init.data.toList.drop 0 = dktJ38_init_0 := by decide +kernel
theorem dJ38_init_0 : decode cJ38_init 0 = .ok (.aload_n 0, 1) := dk_42 (dk_at dksJ38_init_0 0 rfl rfl)
theorem dJ38_init_1 : decode cJ38_init 1 = .ok (.invokespecial 1, 3) := dk_183 0 1 (dk_at dksJ38_init_0 1 rfl rfl)
theorem dJ38_init_4 : decode cJ38_init 4 = .ok (.aload_n 0, 1) := dk_42 (dk_at dksJ38_init_0 4 rfl rfl)
theorem dJ38_init_5 : decode cJ38_init 5 = .ok (.aload_n 2, 1) := dk_44 (dk_at dksJ38_init_0 5 rfl rfl)
theorem dJ38_init_6 : decode cJ38_init 6 = .ok (.putfield 7, 3) := dk_181 0 7 (dk_at dksJ38_init_0 6 rfl rfl)
theorem dJ38_init_9 : decode cJ38_init 9 = .ok (.aload_n 0, 1) := dk_42 (dk_at dksJ38_init_0 9 rfl rfl)
theorem dJ38_init_10 : decode cJ38_init 10 = .ok (.aload_n 3, 1) := dk_45 (dk_at dksJ38_init_0 10 rfl rfl)
theorem dJ38_init_11 : decode cJ38_init 11 = .ok (.putfield 13, 3) := dk_181 0 13 (dk_at dksJ38_init_0 11 rfl rfl)
theorem dJ38_init_14 : decode cJ38_init 14 = .ok (.aload_n 0, 1) := dk_42 (dk_at dksJ38_init_0 14 rfl rfl)
theorem dJ38_init_15 : decode cJ38_init 15 = .ok (.aload_n 1, 1) := dk_43 (dk_at dksJ38_init_0 15 rfl rfl)
theorem dJ38_init_16 : decode cJ38_init 16 = .ok (.putfield 17, 3) := dk_181 0 17 (dk_at dksJ38_init_0 16 rfl rfl)
theorem dJ38_init_19 : decode cJ38_init 19 = .ok (.return_, 1) := dk_177 (dk_at dksJ38_init_0 19 rfl rfl)
theorem q135 : (Jvm.Cond.initialized "java/util/LinkedList$Node") ∈ lw_all := lw_g (lw_at lw_m1 52 rfl) rfl
theorem q528 : (Jvm.Cond.selects "java/util/LinkedList$Node" ({ cls := "java/lang/Object", name := "getClass", desc := "()Ljava/lang/Class;" } : Jvm.MethodName) ({ cls := "java/lang/Object", name := "getClass", desc := "()Ljava/lang/Class;" } : Jvm.MethodName)) ∈ lw_all := lw_g (lw_at lw_m2 205 rfl) rfl
theorem q1861 : (Jvm.Cond.instantiable "java/util/LinkedList$Node" (3 : Nat)) ∈ lw_all := lw_g (lw_at lw_m8 98 rfl) rfl
theorem q1863 : (Jvm.Cond.instanceMethod ({ cls := "java/util/LinkedList$Node", name := "<init>", desc := "(Ljava/util/LinkedList$Node;Ljava/lang/Object;Ljava/util/LinkedList$Node;)V" } : Jvm.MethodName)) ∈ lw_all := lw_g (lw_at lw_m8 100 rfl) rfl
theorem q1864 : (Jvm.Cond.code ({ cls := "java/util/LinkedList$Node", name := "<init>", desc := "(Ljava/util/LinkedList$Node;Ljava/lang/Object;Ljava/util/LinkedList$Node;)V" } : Jvm.MethodName) prog_65_method_1_code (4 : Nat) (Option.none : Option Jvm.ClassFile.FieldType)) ∈ lw_all := lw_g (lw_at lw_m8 101 rfl) rfl
theorem q1865 : (Jvm.Cond.methodLink "java/util/LinkedList$Node" (1 : Nat) ({ cls := "java/lang/Object", name := "<init>", desc := "()V" } : Jvm.MethodName)) ∈ lw_all := lw_g (lw_at lw_m8 102 rfl) rfl
theorem q1866 : (Jvm.Cond.fieldLink "java/util/LinkedList$Node" (7 : Nat) "java/util/LinkedList$Node" "item" "Ljava/lang/Object;") ∈ lw_all := lw_g (lw_at lw_m8 103 rfl) rfl
theorem q1869 : (Jvm.Cond.fieldLink "java/util/LinkedList$Node" (13 : Nat) "java/util/LinkedList$Node" "next" "Ljava/util/LinkedList$Node;") ∈ lw_all := lw_g (lw_at lw_m8 106 rfl) rfl
theorem q1872 : (Jvm.Cond.fieldLink "java/util/LinkedList$Node" (17 : Nat) "java/util/LinkedList$Node" "prev" "Ljava/util/LinkedList$Node;") ∈ lw_all := lw_g (lw_at lw_m8 109 rfl) rfl
theorem q1874 : (Jvm.Cond.lays "java/util/LinkedList$Node" "java/util/LinkedList$Node" "item" "Ljava/lang/Object;") ∈ lw_all := lw_g (lw_at lw_m8 111 rfl) rfl
theorem q1875 : (Jvm.Cond.soleField "java/util/LinkedList$Node" "item") ∈ lw_all := lw_g (lw_at lw_m8 112 rfl) rfl
theorem q1876 : (Jvm.Cond.lays "java/util/LinkedList$Node" "java/util/LinkedList$Node" "next" "Ljava/util/LinkedList$Node;") ∈ lw_all := lw_g (lw_at lw_m8 113 rfl) rfl
theorem q1877 : (Jvm.Cond.soleField "java/util/LinkedList$Node" "next") ∈ lw_all := lw_g (lw_at lw_m8 114 rfl) rfl
theorem q1878 : (Jvm.Cond.lays "java/util/LinkedList$Node" "java/util/LinkedList$Node" "prev" "Ljava/util/LinkedList$Node;") ∈ lw_all := lw_g (lw_at lw_m8 115 rfl) rfl
theorem q1879 : (Jvm.Cond.soleField "java/util/LinkedList$Node" "prev") ∈ lw_all := lw_g (lw_at lw_m8 116 rfl) rfl
theorem q1880 : (Jvm.Cond.superclass "java/util/LinkedList$Node" "java/lang/Object") ∈ lw_all := lw_g (lw_at lw_m8 117 rfl) rfl
theorem q2814 : (Jvm.Cond.castable "java/util/LinkedList$Node" "java/lang/Object") ∈ lw_tbl := lw_at lw_m12 91 rfl
theorem in_J38 : ∀ w ∈ wsJ380, w ∈ lw_all := lw_in wsJ380 [1874, 1876, 1878] (by decide +kernel) (by decide +kernel)
/-! java/util/AbstractList$Itr -/
set_option maxRecDepth 100000
def RJ39 : String := "java/util/AbstractList$Itr"
abbrev cJ39_hasNext : ByteArray := prog_48_method_2_code
def yJ39_hasNext : MethodName := ⟨RJ39, "hasNext", "()Z"⟩
def dkwJ39_hasNext_0 : List UInt8 := [42, 180, 0, 13, 42, 180, 0, 1, 182, 0, 28, 159, 0, 7, 4, 167, 0, 4, 3, 172]
abbrev dktJ39_hasNext_0 : List UInt8 := dkwJ39_hasNext_0 ++ []
theorem dksJ39_hasNext_0 : cJ39_hasNext.data.toList.drop 0 = dktJ39_hasNext_0 := by decide +kernel
theorem dJ39_hasNext_0 : decode cJ39_hasNext 0 = .ok (.aload_n 0, 1) := dk_42 (dk_at dksJ39_hasNext_0 0 rfl rfl)
theorem dJ39_hasNext_1 : decode cJ39_hasNext 1 = .ok (.getfield 13, 3) := dk_180 0 13 (dk_at dksJ39_hasNext_0 1 rfl rfl)
theorem dJ39_hasNext_4 : decode cJ39_hasNext 4 = .ok (.aload_n 0, 1) := dk_42 (dk_at dksJ39_hasNext_0 4 rfl rfl)
theorem dJ39_hasNext_5 : decode cJ39_hasNext 5 = .ok (.getfield 1, 3) := dk_180 0 1 (dk_at dksJ39_hasNext_0 5 rfl rfl)
theorem dJ39_hasNext_8 : decode cJ39_hasNext 8 = .ok (.invokevirtual 28, 3) := dk_182 0 28 (dk_at dksJ39_hasNext_0 8 rfl rfl)
theorem dJ39_hasNext_11 : decode cJ39_hasNext 11 = .ok (.if_icmp .eq 7, 3) := dk_159 0 7 (dk_at dksJ39_hasNext_0 11 rfl rfl)
theorem dJ39_hasNext_14 : decode cJ39_hasNext 14 = .ok (.iconst 1, 1) := dk_4 (dk_at dksJ39_hasNext_0 14 rfl rfl)
theorem dJ39_hasNext_15 : decode cJ39_hasNext 15 = .ok (.goto 4, 3) := dk_167 0 4 (dk_at dksJ39_hasNext_0 15 rfl rfl)
theorem dJ39_hasNext_18 : decode cJ39_hasNext 18 = .ok (.iconst 0, 1) := dk_3 (dk_at dksJ39_hasNext_0 18 rfl rfl)
theorem dJ39_hasNext_19 : decode cJ39_hasNext 19 = .ok (.ireturn, 1) := dk_172 (dk_at dksJ39_hasNext_0 19 rfl rfl)
abbrev cJ39_next : ByteArray := prog_48_method_3_code
def yJ39_next : MethodName := ⟨RJ39, "next", "()Ljava/lang/Object;"⟩
def dkwJ39_next_1 : List UInt8 := [27, 4, 96, 181, 0, 13, 44, 176, 76, 42, 182, 0, 32, 187, 0, 41, 89, 43, 183, 0, 43, 191]
abbrev dktJ39_next_1 : List UInt8 := dkwJ39_next_1 ++ []
def dkwJ39_next_0 : List UInt8 := [42, 182, 0, 32, 42, 180, 0, 13, 60, 42, 180, 0, 1, 27, 182, 0, 35, 77, 42, 27, 181, 0, 17, 42]
abbrev dktJ39_next_0 : List UInt8 := dkwJ39_next_0 ++ dktJ39_next_1
theorem dksJ39_next_0 : cJ39_next.data.toList.drop 0 = dktJ39_next_0 := by decide +kernel
theorem dksJ39_next_1 : cJ39_next.data.toList.drop 24 = dktJ39_next_1 := dk_seg dksJ39_next_0 24 rfl rfl
theorem dJ39_next_0 : decode cJ39_next 0 = .ok (.aload_n 0, 1) := dk_42 (dk_at dksJ39_next_0 0 rfl rfl)
theorem dJ39_next_1 : decode cJ39_next 1 = .ok (.invokevirtual 32, 3) := dk_182 0 32 (dk_at dksJ39_next_0 1 rfl rfl)
theorem dJ39_next_4 : decode cJ39_next 4 = .ok (.aload_n 0, 1) := dk_42 (dk_at dksJ39_next_0 4 rfl rfl)
theorem dJ39_next_5 : decode cJ39_next 5 = .ok (.getfield 13, 3) := dk_180 0 13 (dk_at dksJ39_next_0 5 rfl rfl)
theorem dJ39_next_8 : decode cJ39_next 8 = .ok (.istore_n 1, 1) := dk_60 (dk_at dksJ39_next_0 8 rfl rfl)
theorem dJ39_next_9 : decode cJ39_next 9 = .ok (.aload_n 0, 1) := dk_42 (dk_at dksJ39_next_0 9 rfl rfl)
theorem dJ39_next_10 : decode cJ39_next 10 = .ok (.getfield 1, 3) := dk_180 0 1 (dk_at dksJ39_next_0 10 rfl rfl)
theorem dJ39_next_13 : decode cJ39_next 13 = .ok (.iload_n 1, 1) := dk_27 (dk_at dksJ39_next_0 13 rfl rfl)
theorem dJ39_next_14 : decode cJ39_next 14 = .ok (.invokevirtual 35, 3) := dk_182 0 35 (dk_at dksJ39_next_0 14 rfl rfl)
theorem dJ39_next_17 : decode cJ39_next 17 = .ok (.astore_n 2, 1) := dk_77 (dk_at dksJ39_next_0 17 rfl rfl)
theorem dJ39_next_18 : decode cJ39_next 18 = .ok (.aload_n 0, 1) := dk_42 (dk_at dksJ39_next_0 18 rfl rfl)
theorem dJ39_next_19 : decode cJ39_next 19 = .ok (.iload_n 1, 1) := dk_27 (dk_at dksJ39_next_0 19 rfl rfl)
theorem dJ39_next_20 : decode cJ39_next 20 = .ok (.putfield 17, 3) := dk_181 0 17 (dk_at dksJ39_next_0 20 rfl rfl)
theorem dJ39_next_23 : decode cJ39_next 23 = .ok (.aload_n 0, 1) := dk_42 (dk_at dksJ39_next_0 23 rfl rfl)
theorem dJ39_next_24 : decode cJ39_next 24 = .ok (.iload_n 1, 1) := dk_27 (dk_at dksJ39_next_1 0 rfl rfl)
theorem dJ39_next_25 : decode cJ39_next 25 = .ok (.iconst 1, 1) := dk_4 (dk_at dksJ39_next_1 1 rfl rfl)
theorem dJ39_next_26 : decode cJ39_next 26 = .ok (.iadd, 1) := dk_96 (dk_at dksJ39_next_1 2 rfl rfl)
theorem dJ39_next_27 : decode cJ39_next 27 = .ok (.putfield 13, 3) := dk_181 0 13 (dk_at dksJ39_next_1 3 rfl rfl)
theorem dJ39_next_30 : decode cJ39_next 30 = .ok (.aload_n 2, 1) := dk_44 (dk_at dksJ39_next_1 6 rfl rfl)
theorem dJ39_next_31 : decode cJ39_next 31 = .ok (.areturn, 1) := dk_176 (dk_at dksJ39_next_1 7 rfl rfl)
theorem dJ39_next_32 : decode cJ39_next 32 = .ok (.astore_n 1, 1) := dk_76 (dk_at dksJ39_next_1 8 rfl rfl)
theorem dJ39_next_33 : decode cJ39_next 33 = .ok (.aload_n 0, 1) := dk_42 (dk_at dksJ39_next_1 9 rfl rfl)
theorem dJ39_next_34 : decode cJ39_next 34 = .ok (.invokevirtual 32, 3) := dk_182 0 32 (dk_at dksJ39_next_1 10 rfl rfl)
theorem dJ39_next_37 : decode cJ39_next 37 = .ok (.new 41, 3) := dk_187 0 41 (dk_at dksJ39_next_1 13 rfl rfl)
theorem dJ39_next_40 : decode cJ39_next 40 = .ok (.dup, 1) := dk_89 (dk_at dksJ39_next_1 16 rfl rfl)
theorem dJ39_next_41 : decode cJ39_next 41 = .ok (.aload_n 1, 1) := dk_43 (dk_at dksJ39_next_1 17 rfl rfl)
theorem dJ39_next_42 : decode cJ39_next 42 = .ok (.invokespecial 43, 3) := dk_183 0 43 (dk_at dksJ39_next_1 18 rfl rfl)
theorem dJ39_next_45 : decode cJ39_next 45 = .ok (.athrow, 1) := dk_191 (dk_at dksJ39_next_1 21 rfl rfl)
abbrev cJ39_checkForComodification : ByteArray := prog_48_method_5_code
def yJ39_checkForComodification : MethodName := ⟨RJ39, "checkForComodification", "()V"⟩
def dkwJ39_checkForComodification_0 : List UInt8 := [42, 180, 0, 1, 180, 0, 20, 42, 180, 0, 25, 159, 0, 11, 187, 0, 52, 89, 183, 0, 54, 191, 177]
abbrev dktJ39_checkForComodification_0 : List UInt8 := dkwJ39_checkForComodification_0 ++ []
theorem dksJ39_checkForComodification_0 : cJ39_checkForComodification.data.toList.drop 0 = dktJ39_checkForComodification_0 := by decide +kernel
theorem dJ39_checkForComodification_0 : decode cJ39_checkForComodification 0 = .ok (.aload_n 0, 1) := dk_42 (dk_at dksJ39_checkForComodification_0 0 rfl rfl)
theorem dJ39_checkForComodification_1 : decode cJ39_checkForComodification 1 = .ok (.getfield 1, 3) := dk_180 0 1 (dk_at dksJ39_checkForComodification_0 1 rfl rfl)
theorem dJ39_checkForComodification_4 : decode cJ39_checkForComodification 4 = .ok (.getfield 20, 3) := dk_180 0 20 (dk_at dksJ39_checkForComodification_0 4 rfl rfl)
theorem dJ39_checkForComodification_7 : decode cJ39_checkForComodification 7 = .ok (.aload_n 0, 1) := dk_42 (dk_at dksJ39_checkForComodification_0 7 rfl rfl)
theorem dJ39_checkForComodification_8 : decode cJ39_checkForComodification 8 = .ok (.getfield 25, 3) := dk_180 0 25 (dk_at dksJ39_checkForComodification_0 8 rfl rfl)
theorem dJ39_checkForComodification_11 : decode cJ39_checkForComodification 11 = .ok (.if_icmp .eq 11, 3) := dk_159 0 11 (dk_at dksJ39_checkForComodification_0 11 rfl rfl)
theorem dJ39_checkForComodification_14 : decode cJ39_checkForComodification 14 = .ok (.new 52, 3) := dk_187 0 52 (dk_at dksJ39_checkForComodification_0 14 rfl rfl)
theorem dJ39_checkForComodification_17 : decode cJ39_checkForComodification 17 = .ok (.dup, 1) := dk_89 (dk_at dksJ39_checkForComodification_0 17 rfl rfl)
theorem dJ39_checkForComodification_18 : decode cJ39_checkForComodification 18 = .ok (.invokespecial 54, 3) := dk_183 0 54 (dk_at dksJ39_checkForComodification_0 18 rfl rfl)
theorem dJ39_checkForComodification_21 : decode cJ39_checkForComodification 21 = .ok (.athrow, 1) := dk_191 (dk_at dksJ39_checkForComodification_0 21 rfl rfl)
theorem dJ39_checkForComodification_22 : decode cJ39_checkForComodification 22 = .ok (.return_, 1) := dk_177 (dk_at dksJ39_checkForComodification_0 22 rfl rfl)
theorem q136 : (Jvm.Cond.initialized "java/util/AbstractList$Itr") ∈ lw_all := lw_g (lw_at lw_m1 53 rfl) rfl
theorem q408 : (Jvm.Cond.fieldLink "java/util/AbstractList$Itr" (20 : Nat) "java/util/AbstractList" "modCount" "I") ∈ lw_all := lw_g (lw_at lw_m2 85 rfl) rfl
theorem q1954 : (Jvm.Cond.instanceMethod ({ cls := "java/util/AbstractList$Itr", name := "hasNext", desc := "()Z" } : Jvm.MethodName)) ∈ lw_all := lw_g (lw_at lw_m8 191 rfl) rfl
theorem q1955 : (Jvm.Cond.publicMethod ({ cls := "java/util/AbstractList$Itr", name := "hasNext", desc := "()Z" } : Jvm.MethodName)) ∈ lw_tbl := lw_at lw_m8 192 rfl
theorem q1956 : (Jvm.Cond.code ({ cls := "java/util/AbstractList$Itr", name := "hasNext", desc := "()Z" } : Jvm.MethodName) prog_48_method_2_code (1 : Nat) (Option.some Jvm.ClassFile.FieldType.boolean)) ∈ lw_all := lw_g (lw_at lw_m8 193 rfl) rfl
theorem q1957 : (Jvm.Cond.methodLink "java/util/AbstractList$Itr" (28 : Nat) ({ cls := "java/util/AbstractList", name := "size", desc := "()I" } : Jvm.MethodName)) ∈ lw_all := lw_g (lw_at lw_m8 194 rfl) rfl
theorem q1975 : (Jvm.Cond.instanceMethod ({ cls := "java/util/AbstractList$Itr", name := "next", desc := "()Ljava/lang/Object;" } : Jvm.MethodName)) ∈ lw_all := lw_g (lw_at lw_m8 212 rfl) rfl
theorem q1976 : (Jvm.Cond.publicMethod ({ cls := "java/util/AbstractList$Itr", name := "next", desc := "()Ljava/lang/Object;" } : Jvm.MethodName)) ∈ lw_tbl := lw_at lw_m8 213 rfl
theorem q1977 : (Jvm.Cond.codeWith ({ cls := "java/util/AbstractList$Itr", name := "next", desc := "()Ljava/lang/Object;" } : Jvm.MethodName) prog_48_method_3_code (3 : Nat) (Option.some (Jvm.ClassFile.FieldType.object "java/lang/Object")) [((4 : Nat), (31 : Nat), (32 : Nat), (39 : Nat))]) ∈ lw_all := lw_g (lw_at lw_m8 214 rfl) rfl
theorem q1978 : (Jvm.Cond.methodLink "java/util/AbstractList$Itr" (32 : Nat) ({ cls := "java/util/AbstractList$Itr", name := "checkForComodification", desc := "()V" } : Jvm.MethodName)) ∈ lw_all := lw_g (lw_at lw_m8 215 rfl) rfl
theorem q1979 : (Jvm.Cond.instanceMethod ({ cls := "java/util/AbstractList$Itr", name := "checkForComodification", desc := "()V" } : Jvm.MethodName)) ∈ lw_all := lw_g (lw_at lw_m8 216 rfl) rfl
theorem q1980 : (Jvm.Cond.sameMethod "java/util/AbstractList$Itr" "java/util/AbstractList$Itr" "checkForComodification" "()V") ∈ lw_all := lw_g (lw_at lw_m8 217 rfl) rfl
theorem q1982 : (Jvm.Cond.code ({ cls := "java/util/AbstractList$Itr", name := "checkForComodification", desc := "()V" } : Jvm.MethodName) prog_48_method_5_code (1 : Nat) (Option.none : Option Jvm.ClassFile.FieldType)) ∈ lw_all := lw_g (lw_at lw_m8 219 rfl) rfl
theorem q1983 : (Jvm.Cond.classLink "java/util/AbstractList$Itr" (52 : Nat) "java/util/ConcurrentModificationException") ∈ lw_all := lw_g (lw_at lw_m8 220 rfl) rfl
theorem q1992 : (Jvm.Cond.methodLink "java/util/AbstractList$Itr" (54 : Nat) ({ cls := "java/util/ConcurrentModificationException", name := "<init>", desc := "()V" } : Jvm.MethodName)) ∈ lw_all := lw_g (lw_at lw_m8 229 rfl) rfl
theorem q1998 : (Jvm.Cond.methodLink "java/util/AbstractList$Itr" (35 : Nat) ({ cls := "java/util/AbstractList", name := "get", desc := "(I)Ljava/lang/Object;" } : Jvm.MethodName)) ∈ lw_all := lw_g (lw_at lw_m8 235 rfl) rfl
theorem q2013 : (Jvm.Cond.classLink "java/util/AbstractList$Itr" (41 : Nat) "java/util/NoSuchElementException") ∈ lw_all := lw_g (lw_at lw_m9 10 rfl) rfl
theorem q2014 : (Jvm.Cond.methodLink "java/util/AbstractList$Itr" (43 : Nat) ({ cls := "java/util/NoSuchElementException", name := "<init>", desc := "(Ljava/lang/Throwable;)V" } : Jvm.MethodName)) ∈ lw_all := lw_g (lw_at lw_m9 11 rfl) rfl
theorem q2836 : (Jvm.Cond.fieldLink "java/util/AbstractList$Itr" (1 : Nat) "java/util/AbstractList$Itr" "this$0" "Ljava/util/AbstractList;") ∈ lw_all := lw_g (lw_at lw_m12 113 rfl) rfl
theorem q2837 : (Jvm.Cond.fieldLink "java/util/AbstractList$Itr" (13 : Nat) "java/util/AbstractList$Itr" "cursor" "I") ∈ lw_all := lw_g (lw_at lw_m12 114 rfl) rfl
theorem q2838 : (Jvm.Cond.fieldLink "java/util/AbstractList$Itr" (17 : Nat) "java/util/AbstractList$Itr" "lastRet" "I") ∈ lw_all := lw_g (lw_at lw_m12 115 rfl) rfl
theorem q2839 : (Jvm.Cond.fieldLink "java/util/AbstractList$Itr" (25 : Nat) "java/util/AbstractList$Itr" "expectedModCount" "I") ∈ lw_all := lw_g (lw_at lw_m12 116 rfl) rfl
/-! java/util/LinkedList$ListItr -/
set_option maxRecDepth 100000
def RJ40 : String := "java/util/LinkedList$ListItr"
def TJ40 : u_T := fun k => match k with
  | 0 => ("java/util/LinkedList$ListItr", "lastReturned", "Ljava/util/LinkedList$Node;", false)
  | 1 => ("java/util/LinkedList$ListItr", "next", "Ljava/util/LinkedList$Node;", false)
  | 2 => ("java/util/LinkedList$ListItr", "nextIndex", "I", false)
  | 3 => ("java/util/LinkedList$ListItr", "expectedModCount", "I", false)
  | _ => ("java/util/LinkedList$ListItr", "this$0", "Ljava/util/LinkedList;", true)
def tyJ40 : Nat → FieldType := fun k => match k with
  | 0 => .object "java/util/LinkedList$Node"
  | 1 => .object "java/util/LinkedList$Node"
  | 2 => .int
  | 3 => .int
  | _ => .object "java/util/LinkedList"
abbrev wsJ400 : List Cond := u_ws RJ40 TJ40 5
theorem nmJ40 : ∀ a, a < 5 → ∀ b, b < 5 → a ≠ b → (TJ40 a).2.1 ≠ (TJ40 b).2.1 := by decide +kernel
theorem tyJ40_ok : ∀ k, k < 5 → parseFieldDescriptor (TJ40 k).2.2.1 = some (tyJ40 k) := by decide +kernel
abbrev cJ40_init : ByteArray := prog_64_method_1_code
def yJ40_init : MethodName := ⟨RJ40, "<init>", "(Ljava/util/LinkedList;I)V"⟩
def dkwJ40_init_1 : List UInt8 := [180, 0, 22, 160, 0, 7, 1, 167, 0, 8, 43, 28, 182, 0, 25, 181, 0, 29, 42, 28, 181, 0, 33, 177]
abbrev dktJ40_init_1 : List UInt8 := dkwJ40_init_1 ++ []
def dkwJ40_init_0 : List UInt8 := [42, 43, 181, 0, 1, 42, 183, 0, 7, 42, 42, 180, 0, 1, 180, 0, 13, 181, 0, 19, 42, 28, 43]
abbrev dktJ40_init_0 : List UInt8 := dkwJ40_init_0 ++ dktJ40_init_1
theorem dksJ40_init_0 : cJ40_init.data.toList.drop 0 = dktJ40_init_0 := by decide +kernel
theorem dksJ40_init_1 : cJ40_init.data.toList.drop 23 = dktJ40_init_1 := dk_seg dksJ40_init_0 23 rfl rfl
theorem dJ40_init_0 : decode cJ40_init 0 = .ok (.aload_n 0, 1) := dk_42 (dk_at dksJ40_init_0 0 rfl rfl)
theorem dJ40_init_1 : decode cJ40_init 1 = .ok (.aload_n 1, 1) := dk_43 (dk_at dksJ40_init_0 1 rfl rfl)
theorem dJ40_init_2 : decode cJ40_init 2 = .ok (.putfield 1, 3) := dk_181 0 1 (dk_at dksJ40_init_0 2 rfl rfl)
theorem dJ40_init_5 : decode cJ40_init 5 = .ok (.aload_n 0, 1) := dk_42 (dk_at dksJ40_init_0 5 rfl rfl)
theorem dJ40_init_6 : decode cJ40_init 6 = .ok (.invokespecial 7, 3) := dk_183 0 7 (dk_at dksJ40_init_0 6 rfl rfl)
theorem dJ40_init_9 : decode cJ40_init 9 = .ok (.aload_n 0, 1) := dk_42 (dk_at dksJ40_init_0 9 rfl rfl)
theorem dJ40_init_10 : decode cJ40_init 10 = .ok (.aload_n 0, 1) := dk_42 (dk_at dksJ40_init_0 10 rfl rfl)
theorem dJ40_init_11 : decode cJ40_init 11 = .ok (.getfield 1, 3) := dk_180 0 1 (dk_at dksJ40_init_0 11 rfl rfl)
theorem dJ40_init_14 : decode cJ40_init 14 = .ok (.getfield 13, 3) := dk_180 0 13 (dk_at dksJ40_init_0 14 rfl rfl)
theorem dJ40_init_17 : decode cJ40_init 17 = .ok (.putfield 19, 3) := dk_181 0 19 (dk_at dksJ40_init_0 17 rfl rfl)
theorem dJ40_init_20 : decode cJ40_init 20 = .ok (.aload_n 0, 1) := dk_42 (dk_at dksJ40_init_0 20 rfl rfl)
theorem dJ40_init_21 : decode cJ40_init 21 = .ok (.iload_n 2, 1) := dk_28 (dk_at dksJ40_init_0 21 rfl rfl)
theorem dJ40_init_22 : decode cJ40_init 22 = .ok (.aload_n 1, 1) := dk_43 (dk_at dksJ40_init_0 22 rfl rfl)
theorem dJ40_init_23 : decode cJ40_init 23 = .ok (.getfield 22, 3) := dk_180 0 22 (dk_at dksJ40_init_1 0 rfl rfl)
theorem dJ40_init_26 : decode cJ40_init 26 = .ok (.if_icmp .ne 7, 3) := dk_160 0 7 (dk_at dksJ40_init_1 3 rfl rfl)
theorem dJ40_init_29 : decode cJ40_init 29 = .ok (.aconst_null, 1) := dk_1 (dk_at dksJ40_init_1 6 rfl rfl)
theorem dJ40_init_30 : decode cJ40_init 30 = .ok (.goto 8, 3) := dk_167 0 8 (dk_at dksJ40_init_1 7 rfl rfl)
theorem dJ40_init_33 : decode cJ40_init 33 = .ok (.aload_n 1, 1) := dk_43 (dk_at dksJ40_init_1 10 rfl rfl)
theorem dJ40_init_34 : decode cJ40_init 34 = .ok (.iload_n 2, 1) := dk_28 (dk_at dksJ40_init_1 11 rfl rfl)
theorem dJ40_init_35 : decode cJ40_init 35 = .ok (.invokevirtual 25, 3) := dk_182 0 25 (dk_at dksJ40_init_1 12 rfl rfl)
theorem dJ40_init_38 : decode cJ40_init 38 = .ok (.putfield 29, 3) := dk_181 0 29 (dk_at dksJ40_init_1 15 rfl rfl)
theorem dJ40_init_41 : decode cJ40_init 41 = .ok (.aload_n 0, 1) := dk_42 (dk_at dksJ40_init_1 18 rfl rfl)
theorem dJ40_init_42 : decode cJ40_init 42 = .ok (.iload_n 2, 1) := dk_28 (dk_at dksJ40_init_1 19 rfl rfl)
theorem dJ40_init_43 : decode cJ40_init 43 = .ok (.putfield 33, 3) := dk_181 0 33 (dk_at dksJ40_init_1 20 rfl rfl)
theorem dJ40_init_46 : decode cJ40_init 46 = .ok (.return_, 1) := dk_177 (dk_at dksJ40_init_1 23 rfl rfl)
abbrev cJ40_hasNext : ByteArray := prog_64_method_2_code
def yJ40_hasNext : MethodName := ⟨RJ40, "hasNext", "()Z"⟩
def dkwJ40_hasNext_0 : List UInt8 := [42, 180, 0, 33, 42, 180, 0, 1, 180, 0, 22, 162, 0, 7, 4, 167, 0, 4, 3, 172]
abbrev dktJ40_hasNext_0 : List UInt8 := dkwJ40_hasNext_0 ++ []
theorem dksJ40_hasNext_0 : cJ40_hasNext.data.toList.drop 0 = dktJ40_hasNext_0 := by decide +kernel
theorem dJ40_hasNext_0 : decode cJ40_hasNext 0 = .ok (.aload_n 0, 1) := dk_42 (dk_at dksJ40_hasNext_0 0 rfl rfl)
theorem dJ40_hasNext_1 : decode cJ40_hasNext 1 = .ok (.getfield 33, 3) := dk_180 0 33 (dk_at dksJ40_hasNext_0 1 rfl rfl)
theorem dJ40_hasNext_4 : decode cJ40_hasNext 4 = .ok (.aload_n 0, 1) := dk_42 (dk_at dksJ40_hasNext_0 4 rfl rfl)
theorem dJ40_hasNext_5 : decode cJ40_hasNext 5 = .ok (.getfield 1, 3) := dk_180 0 1 (dk_at dksJ40_hasNext_0 5 rfl rfl)
theorem dJ40_hasNext_8 : decode cJ40_hasNext 8 = .ok (.getfield 22, 3) := dk_180 0 22 (dk_at dksJ40_hasNext_0 8 rfl rfl)
theorem dJ40_hasNext_11 : decode cJ40_hasNext 11 = .ok (.if_icmp .ge 7, 3) := dk_162 0 7 (dk_at dksJ40_hasNext_0 11 rfl rfl)
theorem dJ40_hasNext_14 : decode cJ40_hasNext 14 = .ok (.iconst 1, 1) := dk_4 (dk_at dksJ40_hasNext_0 14 rfl rfl)
theorem dJ40_hasNext_15 : decode cJ40_hasNext 15 = .ok (.goto 4, 3) := dk_167 0 4 (dk_at dksJ40_hasNext_0 15 rfl rfl)
theorem dJ40_hasNext_18 : decode cJ40_hasNext 18 = .ok (.iconst 0, 1) := dk_3 (dk_at dksJ40_hasNext_0 18 rfl rfl)
theorem dJ40_hasNext_19 : decode cJ40_hasNext 19 = .ok (.ireturn, 1) := dk_172 (dk_at dksJ40_hasNext_0 19 rfl rfl)
abbrev cJ40_next : ByteArray := prog_64_method_3_code
def yJ40_next : MethodName := ⟨RJ40, "next", "()Ljava/lang/Object;"⟩
def dkwJ40_next_2 : List UInt8 := [42, 180, 0, 46, 180, 0, 52, 176]
abbrev dktJ40_next_2 : List UInt8 := dkwJ40_next_2 ++ []
def dkwJ40_next_1 : List UInt8 := [181, 0, 46, 42, 42, 180, 0, 29, 180, 0, 49, 181, 0, 29, 42, 89, 180, 0, 33, 4, 96, 181, 0, 33]
abbrev dktJ40_next_1 : List UInt8 := dkwJ40_next_1 ++ dktJ40_next_2
def dkwJ40_next_0 : List UInt8 := [42, 182, 0, 36, 42, 182, 0, 39, 154, 0, 11, 187, 0, 43, 89, 183, 0, 45, 191, 42, 42, 180, 0, 29]
abbrev dktJ40_next_0 : List UInt8 := dkwJ40_next_0 ++ dktJ40_next_1
theorem dksJ40_next_0 : cJ40_next.data.toList.drop 0 = dktJ40_next_0 := by decide +kernel
theorem dksJ40_next_1 : cJ40_next.data.toList.drop 24 = dktJ40_next_1 := dk_seg dksJ40_next_0 24 rfl rfl
theorem dksJ40_next_2 : cJ40_next.data.toList.drop 48 = dktJ40_next_2 := dk_seg dksJ40_next_1 24 rfl rfl
theorem dJ40_next_0 : decode cJ40_next 0 = .ok (.aload_n 0, 1) := dk_42 (dk_at dksJ40_next_0 0 rfl rfl)
theorem dJ40_next_1 : decode cJ40_next 1 = .ok (.invokevirtual 36, 3) := dk_182 0 36 (dk_at dksJ40_next_0 1 rfl rfl)
theorem dJ40_next_4 : decode cJ40_next 4 = .ok (.aload_n 0, 1) := dk_42 (dk_at dksJ40_next_0 4 rfl rfl)
theorem dJ40_next_5 : decode cJ40_next 5 = .ok (.invokevirtual 39, 3) := dk_182 0 39 (dk_at dksJ40_next_0 5 rfl rfl)
theorem dJ40_next_8 : decode cJ40_next 8 = .ok (.ifCond .ne 11, 3) := dk_154 0 11 (dk_at dksJ40_next_0 8 rfl rfl)
theorem dJ40_next_11 : decode cJ40_next 11 = .ok (.new 43, 3) := dk_187 0 43 (dk_at dksJ40_next_0 11 rfl rfl)
theorem dJ40_next_14 : decode cJ40_next 14 = .ok (.dup, 1) := dk_89 (dk_at dksJ40_next_0 14 rfl rfl)
theorem dJ40_next_15 : decode cJ40_next 15 = .ok (.invokespecial 45, 3) := dk_183 0 45 (dk_at dksJ40_next_0 15 rfl rfl)
theorem dJ40_next_18 : decode cJ40_next 18 = .ok (.athrow, 1) := dk_191 (dk_at dksJ40_next_0 18 rfl rfl)
theorem dJ40_next_19 : decode cJ40_next 19 = .ok (.aload_n 0, 1) := dk_42 (dk_at dksJ40_next_0 19 rfl rfl)
theorem dJ40_next_20 : decode cJ40_next 20 = .ok (.aload_n 0, 1) := dk_42 (dk_at dksJ40_next_0 20 rfl rfl)
theorem dJ40_next_21 : decode cJ40_next 21 = .ok (.getfield 29, 3) := dk_180 0 29 (dk_at dksJ40_next_0 21 rfl rfl)
theorem dJ40_next_24 : decode cJ40_next 24 = .ok (.putfield 46, 3) := dk_181 0 46 (dk_at dksJ40_next_1 0 rfl rfl)
theorem dJ40_next_27 : decode cJ40_next 27 = .ok (.aload_n 0, 1) := dk_42 (dk_at dksJ40_next_1 3 rfl rfl)
theorem dJ40_next_28 : decode cJ40_next 28 = .ok (.aload_n 0, 1) := dk_42 (dk_at dksJ40_next_1 4 rfl rfl)
theorem dJ40_next_29 : decode cJ40_next 29 = .ok (.getfield 29, 3) := dk_180 0 29 (dk_at dksJ40_next_1 5 rfl rfl)
theorem dJ40_next_32 : decode cJ40_next 32 = .ok (.getfield 49, 3) := dk_180 0 49 (dk_at dksJ40_next_1 8 rfl rfl)
theorem dJ40_next_35 : decode cJ40_next 35 = .ok (.putfield 29, 3) := dk_181 0 29 (dk_at dksJ40_next_1 11 rfl rfl)
theorem dJ40_next_38 : decode cJ40_next 38 = .ok (.aload_n 0, 1) := dk_42 (dk_at dksJ40_next_1 14 rfl rfl)
theorem dJ40_next_39 : decode cJ40_next 39 = .ok (.dup, 1) := dk_89 (dk_at dksJ40_next_1 15 rfl rfl)
theorem dJ40_next_40 : decode cJ40_next 40 = .ok (.getfield 33, 3) := dk_180 0 33 (dk_at dksJ40_next_1 16 rfl rfl)
theorem dJ40_next_43 : decode cJ40_next 43 = .ok (.iconst 1, 1) := dk_4 (dk_at dksJ40_next_1 19 rfl rfl)
theorem dJ40_next_44 : decode cJ40_next 44 = .ok (.iadd, 1) := dk_96 (dk_at dksJ40_next_1 20 rfl rfl)
theorem dJ40_next_45 : decode cJ40_next 45 = .ok (.putfield 33, 3) := dk_181 0 33 (dk_at dksJ40_next_1 21 rfl rfl)
theorem dJ40_next_48 : decode cJ40_next 48 = .ok (.aload_n 0, 1) := dk_42 (dk_at dksJ40_next_2 0 rfl rfl)
theorem dJ40_next_49 : decode cJ40_next 49 = .ok (.getfield 46, 3) := dk_180 0 46 (dk_at dksJ40_next_2 1 rfl rfl)
theorem dJ40_next_52 : decode cJ40_next 52 = .ok (.getfield 52, 3) := dk_180 0 52 (dk_at dksJ40_next_2 4 rfl rfl)
theorem dJ40_next_55 : decode cJ40_next 55 = .ok (.areturn, 1) := dk_176 (dk_at dksJ40_next_2 7 rfl rfl)
abbrev cJ40_checkForComodification : ByteArray := prog_64_method_12_code
def yJ40_checkForComodification : MethodName := ⟨RJ40, "checkForComodification", "()V"⟩
def dkwJ40_checkForComodification_0 : List UInt8 := [42, 180, 0, 1, 180, 0, 13, 42, 180, 0, 19, 159, 0, 11, 187, 0, 91, 89, 183, 0, 93, 191, 177]
abbrev dktJ40_checkForComodification_0 : List UInt8 := dkwJ40_checkForComodification_0 ++ []
theorem dksJ40_checkForComodification_0 : cJ40_checkForComodification.data.toList.drop 0 = dktJ40_checkForComodification_0 := by decide +kernel
theorem dJ40_checkForComodification_0 : decode cJ40_checkForComodification 0 = .ok (.aload_n 0, 1) := dk_42 (dk_at dksJ40_checkForComodification_0 0 rfl rfl)
theorem dJ40_checkForComodification_1 : decode cJ40_checkForComodification 1 = .ok (.getfield 1, 3) := dk_180 0 1 (dk_at dksJ40_checkForComodification_0 1 rfl rfl)
theorem dJ40_checkForComodification_4 : decode cJ40_checkForComodification 4 = .ok (.getfield 13, 3) := dk_180 0 13 (dk_at dksJ40_checkForComodification_0 4 rfl rfl)
theorem dJ40_checkForComodification_7 : decode cJ40_checkForComodification 7 = .ok (.aload_n 0, 1) := dk_42 (dk_at dksJ40_checkForComodification_0 7 rfl rfl)
theorem dJ40_checkForComodification_8 : decode cJ40_checkForComodification 8 = .ok (.getfield 19, 3) := dk_180 0 19 (dk_at dksJ40_checkForComodification_0 8 rfl rfl)
theorem dJ40_checkForComodification_11 : decode cJ40_checkForComodification 11 = .ok (.if_icmp .eq 11, 3) := dk_159 0 11 (dk_at dksJ40_checkForComodification_0 11 rfl rfl)
theorem dJ40_checkForComodification_14 : decode cJ40_checkForComodification 14 = .ok (.new 91, 3) := dk_187 0 91 (dk_at dksJ40_checkForComodification_0 14 rfl rfl)
theorem dJ40_checkForComodification_17 : decode cJ40_checkForComodification 17 = .ok (.dup, 1) := dk_89 (dk_at dksJ40_checkForComodification_0 17 rfl rfl)
theorem dJ40_checkForComodification_18 : decode cJ40_checkForComodification 18 = .ok (.invokespecial 93, 3) := dk_183 0 93 (dk_at dksJ40_checkForComodification_0 18 rfl rfl)
theorem dJ40_checkForComodification_21 : decode cJ40_checkForComodification 21 = .ok (.athrow, 1) := dk_191 (dk_at dksJ40_checkForComodification_0 21 rfl rfl)
theorem dJ40_checkForComodification_22 : decode cJ40_checkForComodification 22 = .ok (.return_, 1) := dk_177 (dk_at dksJ40_checkForComodification_0 22 rfl rfl)
theorem q138 : (Jvm.Cond.initialized "java/util/LinkedList$ListItr") ∈ lw_all := lw_g (lw_at lw_m1 55 rfl) rfl
theorem q402 : (Jvm.Cond.fieldLink "java/util/LinkedList$ListItr" (22 : Nat) "java/util/LinkedList" "size" "I") ∈ lw_all := lw_g (lw_at lw_m2 79 rfl) rfl
theorem q406 : (Jvm.Cond.fieldLink "java/util/LinkedList$ListItr" (13 : Nat) "java/util/LinkedList" "modCount" "I") ∈ lw_all := lw_g (lw_at lw_m2 83 rfl) rfl
theorem q527 : (Jvm.Cond.selects "java/util/LinkedList$ListItr" ({ cls := "java/lang/Object", name := "getClass", desc := "()Ljava/lang/Class;" } : Jvm.MethodName) ({ cls := "java/lang/Object", name := "getClass", desc := "()Ljava/lang/Class;" } : Jvm.MethodName)) ∈ lw_all := lw_g (lw_at lw_m2 204 rfl) rfl
theorem q1867 : (Jvm.Cond.fieldLink "java/util/LinkedList$ListItr" (52 : Nat) "java/util/LinkedList$Node" "item" "Ljava/lang/Object;") ∈ lw_all := lw_g (lw_at lw_m8 104 rfl) rfl
theorem q1870 : (Jvm.Cond.fieldLink "java/util/LinkedList$ListItr" (49 : Nat) "java/util/LinkedList$Node" "next" "Ljava/util/LinkedList$Node;") ∈ lw_all := lw_g (lw_at lw_m8 107 rfl) rfl
theorem q1921 : (Jvm.Cond.instantiable "java/util/LinkedList$ListItr" (5 : Nat)) ∈ lw_all := lw_g (lw_at lw_m8 158 rfl) rfl
theorem q1923 : (Jvm.Cond.instanceMethod ({ cls := "java/util/LinkedList$ListItr", name := "<init>", desc := "(Ljava/util/LinkedList;I)V" } : Jvm.MethodName)) ∈ lw_all := lw_g (lw_at lw_m8 160 rfl) rfl
theorem q1924 : (Jvm.Cond.code ({ cls := "java/util/LinkedList$ListItr", name := "<init>", desc := "(Ljava/util/LinkedList;I)V" } : Jvm.MethodName) prog_64_method_1_code (3 : Nat) (Option.none : Option Jvm.ClassFile.FieldType)) ∈ lw_all := lw_g (lw_at lw_m8 161 rfl) rfl
theorem q1925 : (Jvm.Cond.methodLink "java/util/LinkedList$ListItr" (7 : Nat) ({ cls := "java/lang/Object", name := "<init>", desc := "()V" } : Jvm.MethodName)) ∈ lw_all := lw_g (lw_at lw_m8 162 rfl) rfl
theorem q1926 : (Jvm.Cond.methodLink "java/util/LinkedList$ListItr" (25 : Nat) ({ cls := "java/util/LinkedList", name := "node", desc := "(I)Ljava/util/LinkedList$Node;" } : Jvm.MethodName)) ∈ lw_all := lw_g (lw_at lw_m8 163 rfl) rfl
theorem q1930 : (Jvm.Cond.fieldLink "java/util/LinkedList$ListItr" (46 : Nat) "java/util/LinkedList$ListItr" "lastReturned" "Ljava/util/LinkedList$Node;") ∈ lw_all := lw_g (lw_at lw_m8 167 rfl) rfl
theorem q1931 : (Jvm.Cond.fieldLink "java/util/LinkedList$ListItr" (29 : Nat) "java/util/LinkedList$ListItr" "next" "Ljava/util/LinkedList$Node;") ∈ lw_all := lw_g (lw_at lw_m8 168 rfl) rfl
theorem q1932 : (Jvm.Cond.fieldLink "java/util/LinkedList$ListItr" (33 : Nat) "java/util/LinkedList$ListItr" "nextIndex" "I") ∈ lw_all := lw_g (lw_at lw_m8 169 rfl) rfl
theorem q1933 : (Jvm.Cond.fieldLink "java/util/LinkedList$ListItr" (19 : Nat) "java/util/LinkedList$ListItr" "expectedModCount" "I") ∈ lw_all := lw_g (lw_at lw_m8 170 rfl) rfl
theorem q1934 : (Jvm.Cond.fieldLink "java/util/LinkedList$ListItr" (1 : Nat) "java/util/LinkedList$ListItr" "this$0" "Ljava/util/LinkedList;") ∈ lw_all := lw_g (lw_at lw_m8 171 rfl) rfl
theorem q1935 : (Jvm.Cond.lays "java/util/LinkedList$ListItr" "java/util/LinkedList$ListItr" "lastReturned" "Ljava/util/LinkedList$Node;") ∈ lw_all := lw_g (lw_at lw_m8 172 rfl) rfl
theorem q1936 : (Jvm.Cond.soleField "java/util/LinkedList$ListItr" "lastReturned") ∈ lw_all := lw_g (lw_at lw_m8 173 rfl) rfl
theorem q1937 : (Jvm.Cond.lays "java/util/LinkedList$ListItr" "java/util/LinkedList$ListItr" "next" "Ljava/util/LinkedList$Node;") ∈ lw_all := lw_g (lw_at lw_m8 174 rfl) rfl
theorem q1938 : (Jvm.Cond.soleField "java/util/LinkedList$ListItr" "next") ∈ lw_all := lw_g (lw_at lw_m8 175 rfl) rfl
theorem q1939 : (Jvm.Cond.lays "java/util/LinkedList$ListItr" "java/util/LinkedList$ListItr" "nextIndex" "I") ∈ lw_all := lw_g (lw_at lw_m8 176 rfl) rfl
theorem q1940 : (Jvm.Cond.soleField "java/util/LinkedList$ListItr" "nextIndex") ∈ lw_all := lw_g (lw_at lw_m8 177 rfl) rfl
theorem q1941 : (Jvm.Cond.lays "java/util/LinkedList$ListItr" "java/util/LinkedList$ListItr" "expectedModCount" "I") ∈ lw_all := lw_g (lw_at lw_m8 178 rfl) rfl
theorem q1942 : (Jvm.Cond.soleField "java/util/LinkedList$ListItr" "expectedModCount") ∈ lw_all := lw_g (lw_at lw_m8 179 rfl) rfl
theorem q1943 : (Jvm.Cond.laysFinal "java/util/LinkedList$ListItr" "java/util/LinkedList$ListItr" "this$0" "Ljava/util/LinkedList;") ∈ lw_all := lw_g (lw_at lw_m8 180 rfl) rfl
theorem q1944 : (Jvm.Cond.soleField "java/util/LinkedList$ListItr" "this$0") ∈ lw_all := lw_g (lw_at lw_m8 181 rfl) rfl
theorem q1945 : (Jvm.Cond.superclass "java/util/LinkedList$ListItr" "java/lang/Object") ∈ lw_all := lw_g (lw_at lw_m8 182 rfl) rfl
theorem q1963 : (Jvm.Cond.castable "java/util/LinkedList$ListItr" "java/util/Iterator") ∈ lw_tbl := lw_at lw_m8 200 rfl
theorem q1964 : (Jvm.Cond.selects "java/util/LinkedList$ListItr" ({ cls := "java/util/Iterator", name := "hasNext", desc := "()Z" } : Jvm.MethodName) ({ cls := "java/util/LinkedList$ListItr", name := "hasNext", desc := "()Z" } : Jvm.MethodName)) ∈ lw_all := lw_g (lw_at lw_m8 201 rfl) rfl
theorem q1965 : (Jvm.Cond.unhidden "java/util/LinkedList$ListItr" "hasNext" "()Z") ∈ lw_tbl := lw_at lw_m8 202 rfl
theorem q1966 : (Jvm.Cond.instanceMethod ({ cls := "java/util/LinkedList$ListItr", name := "hasNext", desc := "()Z" } : Jvm.MethodName)) ∈ lw_all := lw_g (lw_at lw_m8 203 rfl) rfl
theorem q1967 : (Jvm.Cond.publicMethod ({ cls := "java/util/LinkedList$ListItr", name := "hasNext", desc := "()Z" } : Jvm.MethodName)) ∈ lw_tbl := lw_at lw_m8 204 rfl
theorem q1968 : (Jvm.Cond.code ({ cls := "java/util/LinkedList$ListItr", name := "hasNext", desc := "()Z" } : Jvm.MethodName) prog_64_method_2_code (1 : Nat) (Option.some Jvm.ClassFile.FieldType.boolean)) ∈ lw_all := lw_g (lw_at lw_m8 205 rfl) rfl
theorem q2091 : (Jvm.Cond.selects "java/util/LinkedList$ListItr" ({ cls := "java/util/Iterator", name := "next", desc := "()Ljava/lang/Object;" } : Jvm.MethodName) ({ cls := "java/util/LinkedList$ListItr", name := "next", desc := "()Ljava/lang/Object;" } : Jvm.MethodName)) ∈ lw_all := lw_g (lw_at lw_m9 88 rfl) rfl
theorem q2092 : (Jvm.Cond.unhidden "java/util/LinkedList$ListItr" "next" "()Ljava/lang/Object;") ∈ lw_tbl := lw_at lw_m9 89 rfl
theorem q2093 : (Jvm.Cond.instanceMethod ({ cls := "java/util/LinkedList$ListItr", name := "next", desc := "()Ljava/lang/Object;" } : Jvm.MethodName)) ∈ lw_all := lw_g (lw_at lw_m9 90 rfl) rfl
theorem q2094 : (Jvm.Cond.publicMethod ({ cls := "java/util/LinkedList$ListItr", name := "next", desc := "()Ljava/lang/Object;" } : Jvm.MethodName)) ∈ lw_tbl := lw_at lw_m9 91 rfl
theorem q2095 : (Jvm.Cond.code ({ cls := "java/util/LinkedList$ListItr", name := "next", desc := "()Ljava/lang/Object;" } : Jvm.MethodName) prog_64_method_3_code (1 : Nat) (Option.some (Jvm.ClassFile.FieldType.object "java/lang/Object"))) ∈ lw_all := lw_g (lw_at lw_m9 92 rfl) rfl
theorem q2096 : (Jvm.Cond.methodLink "java/util/LinkedList$ListItr" (36 : Nat) ({ cls := "java/util/LinkedList$ListItr", name := "checkForComodification", desc := "()V" } : Jvm.MethodName)) ∈ lw_all := lw_g (lw_at lw_m9 93 rfl) rfl
theorem q2097 : (Jvm.Cond.instanceMethod ({ cls := "java/util/LinkedList$ListItr", name := "checkForComodification", desc := "()V" } : Jvm.MethodName)) ∈ lw_all := lw_g (lw_at lw_m9 94 rfl) rfl
theorem q2098 : (Jvm.Cond.selects "java/util/LinkedList$ListItr" ({ cls := "java/util/LinkedList$ListItr", name := "checkForComodification", desc := "()V" } : Jvm.MethodName) ({ cls := "java/util/LinkedList$ListItr", name := "checkForComodification", desc := "()V" } : Jvm.MethodName)) ∈ lw_all := lw_g (lw_at lw_m9 95 rfl) rfl
theorem q2099 : (Jvm.Cond.code ({ cls := "java/util/LinkedList$ListItr", name := "checkForComodification", desc := "()V" } : Jvm.MethodName) prog_64_method_12_code (1 : Nat) (Option.none : Option Jvm.ClassFile.FieldType)) ∈ lw_all := lw_g (lw_at lw_m9 96 rfl) rfl
theorem q2100 : (Jvm.Cond.classLink "java/util/LinkedList$ListItr" (91 : Nat) "java/util/ConcurrentModificationException") ∈ lw_all := lw_g (lw_at lw_m9 97 rfl) rfl
theorem q2101 : (Jvm.Cond.methodLink "java/util/LinkedList$ListItr" (93 : Nat) ({ cls := "java/util/ConcurrentModificationException", name := "<init>", desc := "()V" } : Jvm.MethodName)) ∈ lw_all := lw_g (lw_at lw_m9 98 rfl) rfl
theorem q2102 : (Jvm.Cond.methodLink "java/util/LinkedList$ListItr" (39 : Nat) ({ cls := "java/util/LinkedList$ListItr", name := "hasNext", desc := "()Z" } : Jvm.MethodName)) ∈ lw_all := lw_g (lw_at lw_m9 99 rfl) rfl
theorem q2103 : (Jvm.Cond.classLink "java/util/LinkedList$ListItr" (43 : Nat) "java/util/NoSuchElementException") ∈ lw_all := lw_g (lw_at lw_m9 100 rfl) rfl
theorem q2104 : (Jvm.Cond.methodLink "java/util/LinkedList$ListItr" (45 : Nat) ({ cls := "java/util/NoSuchElementException", name := "<init>", desc := "()V" } : Jvm.MethodName)) ∈ lw_all := lw_g (lw_at lw_m9 101 rfl) rfl
theorem q2765 : (Jvm.Cond.selects "java/util/LinkedList$ListItr" ({ cls := "java/util/LinkedList$ListItr", name := "hasNext", desc := "()Z" } : Jvm.MethodName) ({ cls := "java/util/LinkedList$ListItr", name := "hasNext", desc := "()Z" } : Jvm.MethodName)) ∈ lw_all := lw_g (lw_at lw_m12 42 rfl) rfl
theorem q2816 : (Jvm.Cond.castable "java/util/LinkedList$ListItr" "java/lang/Object") ∈ lw_tbl := lw_at lw_m12 93 rfl
theorem in_J40 : ∀ w ∈ wsJ400, w ∈ lw_all := lw_in wsJ400 [1935, 1937, 1939, 1941, 1943] (by decide +kernel) (by decide +kernel)
/-! java/util/ConcurrentModificationException -/
set_option maxRecDepth 100000
def RJ41 : String := "java/util/ConcurrentModificationException"
def TJ41 : u_T := fun k => match k with
  | 0 => ("java/lang/Throwable", "cause", "Ljava/lang/Throwable;", false)
  | 1 => ("java/lang/Throwable", "stackTrace", "[Ljava/lang/StackTraceElement;", false)
  | 2 => ("java/lang/Throwable", "suppressedExceptions", "Ljava/util/List;", false)
  | 3 => ("java/lang/Throwable", "detailMessage", "Ljava/lang/String;", false)
  | 4 => ("java/lang/Throwable", "backtrace", "Ljava/lang/Object;", false)
  | _ => ("java/lang/Throwable", "depth", "I", false)
def tyJ41 : Nat → FieldType := fun k => match k with
  | 0 => .object "java/lang/Throwable"
  | 1 => .array (.object "java/lang/StackTraceElement")
  | 2 => .object "java/util/List"
  | 3 => .object "java/lang/String"
  | 4 => .object "java/lang/Object"
  | _ => .int
abbrev wsJ410 : List Cond := u_ws RJ41 TJ41 6
theorem nmJ41 : ∀ a, a < 6 → ∀ b, b < 6 → a ≠ b → (TJ41 a).2.1 ≠ (TJ41 b).2.1 := by decide +kernel
theorem tyJ41_ok : ∀ k, k < 6 → parseFieldDescriptor (TJ41 k).2.2.1 = some (tyJ41 k) := by decide +kernel
abbrev cJ41_init : ByteArray := prog_55_method_1_code
def yJ41_init : MethodName := ⟨RJ41, "<init>", "()V"⟩
theorem dJ41_init_0 : decode cJ41_init 0 = .ok (.aload_n 0, 1) := by decide +kernel
theorem dJ41_init_1 : decode cJ41_init 1 = .ok (.invokespecial 1, 3) := by decide +kernel
theorem dJ41_init_4 : decode cJ41_init 4 = .ok (.return_, 1) := by decide +kernel
theorem q139 : (Jvm.Cond.initialized "java/util/ConcurrentModificationException") ∈ lw_all := lw_g (lw_at lw_m1 56 rfl) rfl
theorem q342 : (Jvm.Cond.selects "java/util/ConcurrentModificationException" ({ cls := "java/lang/Throwable", name := "fillInStackTrace", desc := "()Ljava/lang/Throwable;" } : Jvm.MethodName) ({ cls := "java/lang/Throwable", name := "fillInStackTrace", desc := "()Ljava/lang/Throwable;" } : Jvm.MethodName)) ∈ lw_all := lw_g (lw_at lw_m2 19 rfl) rfl
theorem q523 : (Jvm.Cond.selects "java/util/ConcurrentModificationException" ({ cls := "java/lang/Object", name := "getClass", desc := "()Ljava/lang/Class;" } : Jvm.MethodName) ({ cls := "java/lang/Object", name := "getClass", desc := "()Ljava/lang/Class;" } : Jvm.MethodName)) ∈ lw_all := lw_g (lw_at lw_m2 200 rfl) rfl
theorem q1984 : (Jvm.Cond.instantiable "java/util/ConcurrentModificationException" (6 : Nat)) ∈ lw_all := lw_g (lw_at lw_m8 221 rfl) rfl
theorem q1985 : (Jvm.Cond.castable "java/util/ConcurrentModificationException" "java/util/ConcurrentModificationException") ∈ lw_tbl := lw_at lw_m8 222 rfl
theorem q1986 : (Jvm.Cond.selects "java/util/ConcurrentModificationException" ({ cls := "java/lang/Throwable", name := "fillInStackTrace", desc := "(I)Ljava/lang/Throwable;" } : Jvm.MethodName) ({ cls := "java/lang/Throwable", name := "fillInStackTrace", desc := "(I)Ljava/lang/Throwable;" } : Jvm.MethodName)) ∈ lw_all := lw_g (lw_at lw_m8 223 rfl) rfl
theorem q1987 : (Jvm.Cond.lays "java/util/ConcurrentModificationException" "java/lang/Throwable" "cause" "Ljava/lang/Throwable;") ∈ lw_all := lw_g (lw_at lw_m8 224 rfl) rfl
theorem q1988 : (Jvm.Cond.lays "java/util/ConcurrentModificationException" "java/lang/Throwable" "stackTrace" "[Ljava/lang/StackTraceElement;") ∈ lw_all := lw_g (lw_at lw_m8 225 rfl) rfl
theorem q1989 : (Jvm.Cond.lays "java/util/ConcurrentModificationException" "java/lang/Throwable" "suppressedExceptions" "Ljava/util/List;") ∈ lw_all := lw_g (lw_at lw_m8 226 rfl) rfl
theorem q1990 : (Jvm.Cond.lays "java/util/ConcurrentModificationException" "java/lang/Throwable" "detailMessage" "Ljava/lang/String;") ∈ lw_all := lw_g (lw_at lw_m8 227 rfl) rfl
theorem q1991 : (Jvm.Cond.lays "java/util/ConcurrentModificationException" "java/lang/Throwable" "backtrace" "Ljava/lang/Object;") ∈ lw_all := lw_g (lw_at lw_m8 228 rfl) rfl
theorem q1993 : (Jvm.Cond.instanceMethod ({ cls := "java/util/ConcurrentModificationException", name := "<init>", desc := "()V" } : Jvm.MethodName)) ∈ lw_all := lw_g (lw_at lw_m8 230 rfl) rfl
theorem q1994 : (Jvm.Cond.code ({ cls := "java/util/ConcurrentModificationException", name := "<init>", desc := "()V" } : Jvm.MethodName) prog_55_method_1_code (1 : Nat) (Option.none : Option Jvm.ClassFile.FieldType)) ∈ lw_all := lw_g (lw_at lw_m8 231 rfl) rfl
theorem q1995 : (Jvm.Cond.methodLink "java/util/ConcurrentModificationException" (1 : Nat) ({ cls := "java/lang/RuntimeException", name := "<init>", desc := "()V" } : Jvm.MethodName)) ∈ lw_all := lw_g (lw_at lw_m8 232 rfl) rfl
theorem q1996 : (Jvm.Cond.lays "java/util/ConcurrentModificationException" "java/lang/Throwable" "depth" "I") ∈ lw_all := lw_g (lw_at lw_m8 233 rfl) rfl
theorem q1997 : (Jvm.Cond.superclass "java/util/ConcurrentModificationException" "java/lang/RuntimeException") ∈ lw_all := lw_g (lw_at lw_m8 234 rfl) rfl
theorem q2041 : (Jvm.Cond.selects "java/util/ConcurrentModificationException" ({ cls := "java/lang/Throwable", name := "toString", desc := "()Ljava/lang/String;" } : Jvm.MethodName) ({ cls := "java/lang/Throwable", name := "toString", desc := "()Ljava/lang/String;" } : Jvm.MethodName)) ∈ lw_all := lw_g (lw_at lw_m9 38 rfl) rfl
theorem q2060 : (Jvm.Cond.selects "java/util/ConcurrentModificationException" ({ cls := "java/lang/Throwable", name := "getLocalizedMessage", desc := "()Ljava/lang/String;" } : Jvm.MethodName) ({ cls := "java/lang/Throwable", name := "getLocalizedMessage", desc := "()Ljava/lang/String;" } : Jvm.MethodName)) ∈ lw_all := lw_g (lw_at lw_m9 57 rfl) rfl
theorem q2084 : (Jvm.Cond.selects "java/util/ConcurrentModificationException" ({ cls := "java/lang/Throwable", name := "getMessage", desc := "()Ljava/lang/String;" } : Jvm.MethodName) ({ cls := "java/lang/Throwable", name := "getMessage", desc := "()Ljava/lang/String;" } : Jvm.MethodName)) ∈ lw_all := lw_g (lw_at lw_m9 81 rfl) rfl
theorem q2782 : (Jvm.Cond.castable "java/util/ConcurrentModificationException" "java/lang/RuntimeException") ∈ lw_tbl := lw_at lw_m12 59 rfl
theorem q2817 : (Jvm.Cond.castable "java/util/ConcurrentModificationException" "java/lang/Object") ∈ lw_tbl := lw_at lw_m12 94 rfl
theorem in_J41 : ∀ w ∈ wsJ410, w ∈ lw_all := lw_in wsJ410 [1987, 1988, 1989, 1990, 1991, 1996] (by decide +kernel) (by decide +kernel)
/-! java/lang/Object -/
set_option maxRecDepth 100000
def RJ42 : String := "java/lang/Object"
abbrev cJ42_init : ByteArray := object_method_1_code
def yJ42_init : MethodName := ⟨RJ42, "<init>", "()V"⟩
theorem dJ42_init_0 : decode cJ42_init 0 = .ok (.return_, 1) := by decide +kernel
theorem q146 : (Jvm.Cond.instanceMethod ({ cls := "java/lang/Object", name := "<init>", desc := "()V" } : Jvm.MethodName)) ∈ lw_all := lw_g (lw_at lw_m1 63 rfl) rfl
theorem q147 : (Jvm.Cond.code ({ cls := "java/lang/Object", name := "<init>", desc := "()V" } : Jvm.MethodName) object_method_1_code (1 : Nat) (Option.none : Option Jvm.ClassFile.FieldType)) ∈ lw_all := lw_g (lw_at lw_m1 64 rfl) rfl
theorem q494 : (Jvm.Cond.instanceMethod ({ cls := "java/lang/Object", name := "getClass", desc := "()Ljava/lang/Class;" } : Jvm.MethodName)) ∈ lw_all := lw_g (lw_at lw_m2 171 rfl) rfl
theorem q495 : (Jvm.Cond.sameMethod "java/lang/Object" "java/lang/Object" "getClass" "()Ljava/lang/Class;") ∈ lw_all := lw_g (lw_at lw_m2 172 rfl) rfl
theorem q530 : (Jvm.Cond.native ({ cls := "java/lang/Object", name := "getClass", desc := "()Ljava/lang/Class;" } : Jvm.MethodName)) ∈ lw_all := lw_g (lw_at lw_m2 207 rfl) rfl
theorem q882 : (Jvm.Cond.native ({ cls := "java/lang/Object", name := "clone", desc := "()Ljava/lang/Object;" } : Jvm.MethodName)) ∈ lw_all := lw_g (lw_at lw_m4 79 rfl) rfl
theorem q883 : (Jvm.Cond.instanceMethod ({ cls := "java/lang/Object", name := "clone", desc := "()Ljava/lang/Object;" } : Jvm.MethodName)) ∈ lw_all := lw_g (lw_at lw_m4 80 rfl) rfl
theorem q2767 : (Jvm.Cond.initialized "java/lang/Object") ∈ lw_all := lw_g (lw_at lw_m12 44 rfl) rfl
theorem q2823 : (Jvm.Cond.declares ({ cls := "java/lang/Object", name := "getClass", desc := "()Ljava/lang/Class;" } : Jvm.MethodName)) ∈ lw_tbl := lw_at lw_m12 100 rfl
/-! java/lang/System$2 -/
set_option maxRecDepth 100000
def RJ43 : String := "java/lang/System$2"
abbrev cJ43_getUTF16Char : ByteArray := prog_41_method_45_code
def yJ43_getUTF16Char : MethodName := ⟨RJ43, "getUTF16Char", "([BI)C"⟩
def dkwJ43_getUTF16Char_0 : List UInt8 := [43, 28, 184, 0, 185, 172]
abbrev dktJ43_getUTF16Char_0 : List UInt8 := dkwJ43_getUTF16Char_0 ++ []
theorem dksJ43_getUTF16Char_0 : cJ43_getUTF16Char.data.toList.drop 0 = dktJ43_getUTF16Char_0 := by decide +kernel
theorem dJ43_getUTF16Char_0 : decode cJ43_getUTF16Char 0 = .ok (.aload_n 1, 1) := dk_43 (dk_at dksJ43_getUTF16Char_0 0 rfl rfl)
theorem dJ43_getUTF16Char_1 : decode cJ43_getUTF16Char 1 = .ok (.iload_n 2, 1) := dk_28 (dk_at dksJ43_getUTF16Char_0 1 rfl rfl)
theorem dJ43_getUTF16Char_2 : decode cJ43_getUTF16Char 2 = .ok (.invokestatic 185, 3) := dk_184 0 185 (dk_at dksJ43_getUTF16Char_0 2 rfl rfl)
theorem dJ43_getUTF16Char_5 : decode cJ43_getUTF16Char 5 = .ok (.ireturn, 1) := dk_172 (dk_at dksJ43_getUTF16Char_0 5 rfl rfl)
theorem q519 : (Jvm.Cond.selects "java/lang/System$2" ({ cls := "java/lang/Object", name := "getClass", desc := "()Ljava/lang/Class;" } : Jvm.MethodName) ({ cls := "java/lang/Object", name := "getClass", desc := "()Ljava/lang/Class;" } : Jvm.MethodName)) ∈ lw_all := lw_g (lw_at lw_m2 196 rfl) rfl
theorem q2133 : (Jvm.Cond.castable "java/lang/System$2" "jdk/internal/access/JavaLangAccess") ∈ lw_tbl := lw_at lw_m9 130 rfl
theorem q2134 : (Jvm.Cond.selects "java/lang/System$2" ({ cls := "jdk/internal/access/JavaLangAccess", name := "getUTF16Char", desc := "([BI)C" } : Jvm.MethodName) ({ cls := "java/lang/System$2", name := "getUTF16Char", desc := "([BI)C" } : Jvm.MethodName)) ∈ lw_all := lw_g (lw_at lw_m9 131 rfl) rfl
theorem q2135 : (Jvm.Cond.unhidden "java/lang/System$2" "getUTF16Char" "([BI)C") ∈ lw_tbl := lw_at lw_m9 132 rfl
theorem q2136 : (Jvm.Cond.instanceMethod ({ cls := "java/lang/System$2", name := "getUTF16Char", desc := "([BI)C" } : Jvm.MethodName)) ∈ lw_all := lw_g (lw_at lw_m9 133 rfl) rfl
theorem q2137 : (Jvm.Cond.publicMethod ({ cls := "java/lang/System$2", name := "getUTF16Char", desc := "([BI)C" } : Jvm.MethodName)) ∈ lw_tbl := lw_at lw_m9 134 rfl
theorem q2138 : (Jvm.Cond.code ({ cls := "java/lang/System$2", name := "getUTF16Char", desc := "([BI)C" } : Jvm.MethodName) prog_41_method_45_code (3 : Nat) (Option.some Jvm.ClassFile.FieldType.char)) ∈ lw_all := lw_g (lw_at lw_m9 135 rfl) rfl
theorem q2139 : (Jvm.Cond.methodLink "java/lang/System$2" (185 : Nat) ({ cls := "java/lang/StringUTF16", name := "getChar", desc := "([BI)C" } : Jvm.MethodName)) ∈ lw_all := lw_g (lw_at lw_m9 136 rfl) rfl
theorem q2818 : (Jvm.Cond.castable "java/lang/System$2" "java/lang/Object") ∈ lw_tbl := lw_at lw_m12 95 rfl
theorem q881 : (Jvm.Cond.sameMethod "[B" "java/lang/Object" "clone" "()Ljava/lang/Object;") ∈ lw_all := lw_g (lw_at lw_m4 78 rfl) rfl
set_option maxRecDepth 100000
theorem q884 : (Jvm.Cond.selects "[B" ({ cls := "[B", name := "clone", desc := "()Ljava/lang/Object;" } : Jvm.MethodName) ({ cls := "java/lang/Object", name := "clone", desc := "()Ljava/lang/Object;" } : Jvm.MethodName)) ∈ lw_all := lw_g (lw_at lw_m4 81 rfl) rfl
theorem q885 : (Jvm.Cond.castable "[B" "java/lang/Cloneable") ∈ lw_tbl := lw_at lw_m4 82 rfl
theorem q2828 : (Jvm.Cond.castable "[B" "java/lang/Object") ∈ lw_tbl := lw_at lw_m12 105 rfl
theorem q2832 : (Jvm.Cond.castable "[D" "java/lang/Object") ∈ lw_tbl := lw_at lw_m12 109 rfl
set_option maxRecDepth 100000
theorem q2826 : (Jvm.Cond.castable "[I" "java/lang/Object") ∈ lw_tbl := lw_at lw_m12 103 rfl
set_option maxRecDepth 100000
theorem q2831 : (Jvm.Cond.castable "[J" "java/lang/Object") ∈ lw_tbl := lw_at lw_m12 108 rfl
set_option maxRecDepth 100000
theorem q2825 : (Jvm.Cond.castable "[LInkPrintery$Edition;" "java/lang/Object") ∈ lw_tbl := lw_at lw_m12 102 rfl
set_option maxRecDepth 100000
theorem q2824 : (Jvm.Cond.castable "[LInkPrintery$Fading;" "java/lang/Object") ∈ lw_tbl := lw_at lw_m12 101 rfl
set_option maxRecDepth 100000
theorem q2830 : (Jvm.Cond.castable "[Ljava/lang/Number;" "java/lang/Object") ∈ lw_tbl := lw_at lw_m12 107 rfl
set_option maxRecDepth 100000
theorem q2821 : (Jvm.Cond.sameMethod "[Ljava/lang/Object;" "java/lang/Object" "getClass" "()Ljava/lang/Class;") ∈ lw_all := lw_g (lw_at lw_m12 98 rfl) rfl
set_option maxRecDepth 100000
theorem q2822 : (Jvm.Cond.selects "[Ljava/lang/Object;" ({ cls := "java/lang/Object", name := "getClass", desc := "()Ljava/lang/Class;" } : Jvm.MethodName) ({ cls := "java/lang/Object", name := "getClass", desc := "()Ljava/lang/Class;" } : Jvm.MethodName)) ∈ lw_all := lw_g (lw_at lw_m12 99 rfl) rfl
theorem q2827 : (Jvm.Cond.castable "[Ljava/lang/Object;" "java/lang/Object") ∈ lw_tbl := lw_at lw_m12 104 rfl
theorem q2829 : (Jvm.Cond.castable "[[I" "java/lang/Object") ∈ lw_tbl := lw_at lw_m12 106 rfl
set_option maxRecDepth 100000
theorem q123 : (Jvm.Cond.initialized "java/lang/Integer$IntegerCache") ∈ lw_all := lw_g (lw_at lw_m1 40 rfl) rfl
set_option maxRecDepth 100000
theorem q919 : (Jvm.Cond.laysStatic "java/lang/Integer$IntegerCache" "high" "I") ∈ lw_tbl := lw_at lw_m4 116 rfl
theorem q921 : (Jvm.Cond.laysStatic "java/lang/Integer$IntegerCache" "cache" "[Ljava/lang/Integer;") ∈ lw_tbl := lw_at lw_m4 118 rfl
theorem q107 : (Jvm.Cond.initialized "java/lang/System") ∈ lw_all := lw_g (lw_at lw_m1 24 rfl) rfl
set_option maxRecDepth 100000
theorem q540 : (Jvm.Cond.static ({ cls := "java/lang/System", name := "arraycopy", desc := "(Ljava/lang/Object;ILjava/lang/Object;II)V" } : Jvm.MethodName)) ∈ lw_all := lw_g (lw_at lw_m2 217 rfl) rfl
theorem q541 : (Jvm.Cond.native ({ cls := "java/lang/System", name := "arraycopy", desc := "(Ljava/lang/Object;ILjava/lang/Object;II)V" } : Jvm.MethodName)) ∈ lw_all := lw_g (lw_at lw_m2 218 rfl) rfl
theorem q137 : (Jvm.Cond.initialized "java/util/AbstractList$ListItr") ∈ lw_all := lw_g (lw_at lw_m1 54 rfl) rfl
set_option maxRecDepth 100000
theorem q521 : (Jvm.Cond.selects "java/util/AbstractList$ListItr" ({ cls := "java/lang/Object", name := "getClass", desc := "()Ljava/lang/Class;" } : Jvm.MethodName) ({ cls := "java/lang/Object", name := "getClass", desc := "()Ljava/lang/Class;" } : Jvm.MethodName)) ∈ lw_all := lw_g (lw_at lw_m2 198 rfl) rfl
theorem q1951 : (Jvm.Cond.castable "java/util/AbstractList$ListItr" "java/util/Iterator") ∈ lw_tbl := lw_at lw_m8 188 rfl
theorem q1952 : (Jvm.Cond.selects "java/util/AbstractList$ListItr" ({ cls := "java/util/Iterator", name := "hasNext", desc := "()Z" } : Jvm.MethodName) ({ cls := "java/util/AbstractList$Itr", name := "hasNext", desc := "()Z" } : Jvm.MethodName)) ∈ lw_all := lw_g (lw_at lw_m8 189 rfl) rfl
theorem q1953 : (Jvm.Cond.unhidden "java/util/AbstractList$ListItr" "hasNext" "()Z") ∈ lw_tbl := lw_at lw_m8 190 rfl
theorem q1973 : (Jvm.Cond.selects "java/util/AbstractList$ListItr" ({ cls := "java/util/Iterator", name := "next", desc := "()Ljava/lang/Object;" } : Jvm.MethodName) ({ cls := "java/util/AbstractList$Itr", name := "next", desc := "()Ljava/lang/Object;" } : Jvm.MethodName)) ∈ lw_all := lw_g (lw_at lw_m8 210 rfl) rfl
theorem q1974 : (Jvm.Cond.unhidden "java/util/AbstractList$ListItr" "next" "()Ljava/lang/Object;") ∈ lw_tbl := lw_at lw_m8 211 rfl
theorem q1981 : (Jvm.Cond.selects "java/util/AbstractList$ListItr" ({ cls := "java/util/AbstractList$Itr", name := "checkForComodification", desc := "()V" } : Jvm.MethodName) ({ cls := "java/util/AbstractList$Itr", name := "checkForComodification", desc := "()V" } : Jvm.MethodName)) ∈ lw_all := lw_g (lw_at lw_m8 218 rfl) rfl
theorem q2815 : (Jvm.Cond.castable "java/util/AbstractList$ListItr" "java/lang/Object") ∈ lw_tbl := lw_at lw_m12 92 rfl
theorem q2835 : (Jvm.Cond.fieldLink "java/util/AbstractList$ListItr" (1 : Nat) "java/util/AbstractList$ListItr" "this$0" "Ljava/util/AbstractList;") ∈ lw_all := lw_g (lw_at lw_m12 112 rfl) rfl
theorem q2840 : (Jvm.Cond.fieldLink "java/util/AbstractList$ListItr" (13 : Nat) "java/util/AbstractList$ListItr" "cursor" "I") ∈ lw_all := lw_g (lw_at lw_m12 117 rfl) rfl
theorem q2841 : (Jvm.Cond.sameField "java/util/AbstractList$ListItr" "java/util/AbstractList$Itr" "cursor" "I") ∈ lw_all := lw_g (lw_at lw_m12 118 rfl) rfl
theorem q1949 : (Jvm.Cond.interfaceMethod "java/util/Iterator" "java/util/Iterator" "hasNext" "()Z") ∈ lw_tbl := lw_at lw_m8 186 rfl
set_option maxRecDepth 100000
theorem q1950 : (Jvm.Cond.declares ({ cls := "java/util/Iterator", name := "hasNext", desc := "()Z" } : Jvm.MethodName)) ∈ lw_tbl := lw_at lw_m8 187 rfl
theorem q1971 : (Jvm.Cond.interfaceMethod "java/util/Iterator" "java/util/Iterator" "next" "()Ljava/lang/Object;") ∈ lw_tbl := lw_at lw_m8 208 rfl
theorem q1972 : (Jvm.Cond.declares ({ cls := "java/util/Iterator", name := "next", desc := "()Ljava/lang/Object;" } : Jvm.MethodName)) ∈ lw_tbl := lw_at lw_m8 209 rfl
theorem q988 : (Jvm.Cond.interfaceMethod "java/util/function/BiFunction" "java/util/function/BiFunction" "apply" "(Ljava/lang/Object;Ljava/lang/Object;)Ljava/lang/Object;") ∈ lw_tbl := lw_at lw_m4 185 rfl
set_option maxRecDepth 100000
theorem q989 : (Jvm.Cond.declares ({ cls := "java/util/function/BiFunction", name := "apply", desc := "(Ljava/lang/Object;Ljava/lang/Object;)Ljava/lang/Object;" } : Jvm.MethodName)) ∈ lw_tbl := lw_at lw_m4 186 rfl
theorem q2131 : (Jvm.Cond.interfaceMethod "jdk/internal/access/JavaLangAccess" "jdk/internal/access/JavaLangAccess" "getUTF16Char" "([BI)C") ∈ lw_tbl := lw_at lw_m9 128 rfl
set_option maxRecDepth 100000
theorem q2132 : (Jvm.Cond.declares ({ cls := "jdk/internal/access/JavaLangAccess", name := "getUTF16Char", desc := "([BI)C" } : Jvm.MethodName)) ∈ lw_tbl := lw_at lw_m9 129 rfl
theorem q155 : (Jvm.Cond.arrayOver (Jvm.ClassFile.FieldType.object "InkPrintery$Fading")) ∈ lw_tbl := lw_at lw_m1 72 rfl
set_option maxRecDepth 100000
theorem q157 : (Jvm.Cond.arrayOver (Jvm.ClassFile.FieldType.object "InkPrintery$Edition")) ∈ lw_tbl := lw_at lw_m1 74 rfl
theorem q168 : (Jvm.Cond.arrayClass Jvm.ClassFile.FieldType.int) ∈ lw_all := lw_g (lw_at lw_m1 85 rfl) rfl
theorem q251 : (Jvm.Cond.arrayOver (Jvm.ClassFile.FieldType.object "java/lang/Object")) ∈ lw_tbl := lw_at lw_m1 168 rfl
theorem q367 : (Jvm.Cond.arrayClass Jvm.ClassFile.FieldType.byte) ∈ lw_all := lw_g (lw_at lw_m2 44 rfl) rfl
theorem q642 : (Jvm.Cond.arrayOver (Jvm.ClassFile.FieldType.array Jvm.ClassFile.FieldType.int)) ∈ lw_tbl := lw_at lw_m3 79 rfl
theorem q914 : (Jvm.Cond.arrayOver (Jvm.ClassFile.FieldType.object "java/lang/Number")) ∈ lw_tbl := lw_at lw_m4 111 rfl
theorem q2750 : (Jvm.Cond.arrayClass Jvm.ClassFile.FieldType.long) ∈ lw_all := lw_g (lw_at lw_m12 27 rfl) rfl
theorem q2751 : (Jvm.Cond.arrayClass Jvm.ClassFile.FieldType.double) ∈ lw_all := lw_g (lw_at lw_m12 28 rfl) rfl
theorem q2833 : (Jvm.Cond.arrayClass Jvm.ClassFile.FieldType.char) ∈ lw_all := lw_g (lw_at lw_m12 110 rfl) rfl
theorem q2834 : (Jvm.Cond.arrayClass Jvm.ClassFile.FieldType.short) ∈ lw_all := lw_g (lw_at lw_m12 111 rfl) rfl
/-! the law's own entry -/
set_option maxRecDepth 100000
abbrev cL_law : ByteArray := code
def dkwL_law_95 : List UInt8 := [4, 172]
abbrev dktL_law_95 : List UInt8 := dkwL_law_95 ++ []
def dkwL_law_94 : List UInt8 := [154, 0, 15, 45, 3, 47, 21, 7, 133, 148, 153, 0, 5, 3, 172, 167, 0, 3, 132, 5, 3, 167, 246, 181]
abbrev dktL_law_94 : List UInt8 := dkwL_law_94 ++ dktL_law_95
def dkwL_law_93 : List UInt8 := [184, 1, 60, 54, 6, 44, 182, 1, 62, 54, 7, 44, 182, 0, 138, 21, 6, 159, 0, 5, 3, 172, 21, 6]
abbrev dktL_law_93 : List UInt8 := dkwL_law_93 ++ dktL_law_94
def dkwL_law_92 : List UInt8 := [153, 0, 5, 3, 172, 167, 0, 60, 43, 182, 1, 56, 44, 182, 1, 59, 159, 0, 49, 3, 172, 43, 45]
abbrev dktL_law_92 : List UInt8 := dkwL_law_92 ++ dktL_law_93
def dkwL_law_91 : List UInt8 := [182, 0, 138, 21, 6, 159, 0, 5, 3, 172, 21, 6, 154, 0, 15, 45, 3, 47, 21, 7, 133, 148]
abbrev dktL_law_91 : List UInt8 := dkwL_law_91 ++ dktL_law_92
def dkwL_law_90 : List UInt8 := [153, 0, 5, 3, 172, 167, 0, 104, 43, 45, 184, 1, 53, 54, 6, 44, 182, 1, 55, 54, 7, 44]
abbrev dktL_law_90 : List UInt8 := dkwL_law_90 ++ dktL_law_91
def dkwL_law_89 : List UInt8 := [182, 0, 138, 21, 6, 159, 0, 5, 3, 172, 21, 6, 154, 0, 15, 45, 3, 47, 21, 7, 133, 148]
abbrev dktL_law_89 : List UInt8 := dkwL_law_89 ++ dktL_law_90
def dkwL_law_88 : List UInt8 := [153, 0, 5, 3, 172, 167, 0, 148, 43, 45, 184, 1, 50, 54, 6, 44, 182, 1, 52, 54, 7, 44]
abbrev dktL_law_88 : List UInt8 := dkwL_law_88 ++ dktL_law_89
def dkwL_law_87 : List UInt8 := [182, 0, 138, 21, 6, 159, 0, 5, 3, 172, 21, 6, 154, 0, 15, 45, 3, 47, 21, 7, 133, 148]
abbrev dktL_law_87 : List UInt8 := dkwL_law_87 ++ dktL_law_88
def dkwL_law_86 : List UInt8 := [153, 0, 5, 3, 172, 167, 0, 192, 43, 45, 184, 1, 47, 54, 6, 44, 182, 1, 49, 54, 7, 44]
abbrev dktL_law_86 : List UInt8 := dkwL_law_86 ++ dktL_law_87
def dkwL_law_85 : List UInt8 := [182, 0, 138, 21, 6, 159, 0, 5, 3, 172, 21, 6, 154, 0, 15, 45, 3, 47, 21, 7, 133, 148]
abbrev dktL_law_85 : List UInt8 := dkwL_law_85 ++ dktL_law_86
def dkwL_law_84 : List UInt8 := [148, 153, 0, 5, 3, 172, 167, 0, 236, 43, 45, 184, 1, 43, 54, 6, 44, 182, 1, 46, 54, 7, 44]
abbrev dktL_law_84 : List UInt8 := dkwL_law_84 ++ dktL_law_85
def dkwL_law_83 : List UInt8 := [54, 7, 44, 182, 0, 138, 21, 6, 159, 0, 5, 3, 172, 21, 6, 154, 0, 15, 45, 3, 47, 21, 7, 133]
abbrev dktL_law_83 : List UInt8 := dkwL_law_83 ++ dktL_law_84
def dkwL_law_82 : List UInt8 := [21, 5, 4, 96, 46, 146, 45, 184, 1, 39, 54, 6, 44, 42, 21, 5, 4, 96, 46, 146, 182, 1, 42]
abbrev dktL_law_82 : List UInt8 := dkwL_law_82 ++ dktL_law_83
def dkwL_law_81 : List UInt8 := [148, 153, 0, 5, 3, 172, 167, 1, 51, 43, 182, 1, 34, 44, 182, 1, 38, 159, 1, 40, 3, 172, 43, 42]
abbrev dktL_law_81 : List UInt8 := dkwL_law_81 ++ dktL_law_82
def dkwL_law_80 : List UInt8 := [54, 7, 44, 182, 0, 138, 21, 6, 159, 0, 5, 3, 172, 21, 6, 154, 0, 15, 45, 3, 47, 21, 7, 133]
abbrev dktL_law_80 : List UInt8 := dkwL_law_80 ++ dktL_law_81
def dkwL_law_79 : List UInt8 := [172, 43, 42, 21, 5, 4, 96, 46, 45, 184, 1, 31, 54, 6, 44, 42, 21, 5, 4, 96, 46, 182, 1, 33]
abbrev dktL_law_79 : List UInt8 := dkwL_law_79 ++ dktL_law_80
def dkwL_law_78 : List UInt8 := [21, 7, 133, 148, 153, 0, 5, 3, 172, 167, 1, 120, 43, 182, 1, 27, 44, 182, 1, 30, 159, 1, 109, 3]
abbrev dktL_law_78 : List UInt8 := dkwL_law_78 ++ dktL_law_79
def dkwL_law_77 : List UInt8 := [182, 1, 26, 54, 7, 44, 182, 0, 138, 21, 6, 159, 0, 5, 3, 172, 21, 6, 154, 0, 15, 45, 3, 47]
abbrev dktL_law_77 : List UInt8 := dkwL_law_77 ++ dktL_law_78
def dkwL_law_76 : List UInt8 := [172, 167, 1, 176, 43, 42, 21, 5, 4, 96, 46, 45, 184, 1, 24, 54, 6, 44, 42, 21, 5, 4, 96, 46]
abbrev dktL_law_76 : List UInt8 := dkwL_law_76 ++ dktL_law_77
def dkwL_law_75 : List UInt8 := [153, 0, 25, 25, 4, 3, 49, 25, 4, 3, 49, 151, 153, 0, 11, 23, 7, 23, 7, 149, 154, 0, 5, 3]
abbrev dktL_law_75 : List UInt8 := dkwL_law_75 ++ dktL_law_76
def dkwL_law_74 : List UInt8 := [182, 0, 138, 21, 6, 159, 0, 5, 3, 172, 21, 6, 154, 0, 36, 25, 4, 3, 49, 23, 7, 141, 151]
abbrev dktL_law_74 : List UInt8 := dkwL_law_74 ++ dktL_law_75
def dkwL_law_73 : List UInt8 := [154, 0, 5, 3, 172, 167, 1, 242, 43, 25, 4, 184, 1, 21, 54, 6, 44, 182, 1, 23, 56, 7, 44]
abbrev dktL_law_73 : List UInt8 := dkwL_law_73 ++ dktL_law_74
def dkwL_law_72 : List UInt8 := [49, 24, 7, 151, 153, 0, 25, 25, 4, 3, 49, 25, 4, 3, 49, 151, 153, 0, 11, 24, 7, 24, 7, 151]
abbrev dktL_law_72 : List UInt8 := dkwL_law_72 ++ dktL_law_73
def dkwL_law_71 : List UInt8 := [182, 1, 20, 57, 7, 44, 182, 0, 138, 21, 6, 159, 0, 5, 3, 172, 21, 6, 154, 0, 35, 25, 4, 3]
abbrev dktL_law_71 : List UInt8 := dkwL_law_71 ++ dktL_law_72
def dkwL_law_70 : List UInt8 := [3, 172, 43, 182, 1, 13, 44, 182, 1, 16, 159, 2, 53, 3, 172, 43, 25, 4, 184, 1, 17, 54, 6, 44]
abbrev dktL_law_70 : List UInt8 := dkwL_law_70 ++ dktL_law_71
def dkwL_law_69 : List UInt8 := [182, 1, 4, 44, 182, 1, 7, 159, 2, 80, 3, 172, 43, 182, 1, 8, 44, 182, 1, 12, 148, 153, 2, 66]
abbrev dktL_law_69 : List UInt8 := dkwL_law_69 ++ dktL_law_70
def dkwL_law_68 : List UInt8 := [182, 0, 255, 159, 2, 106, 3, 172, 43, 182, 1, 0, 44, 182, 1, 3, 159, 2, 93, 3, 172, 43]
abbrev dktL_law_68 : List UInt8 := dkwL_law_68 ++ dktL_law_69
def dkwL_law_67 : List UInt8 := [159, 2, 132, 3, 172, 43, 182, 0, 248, 44, 182, 0, 251, 159, 2, 119, 3, 172, 43, 182, 0, 252, 44]
abbrev dktL_law_67 : List UInt8 := dkwL_law_67 ++ dktL_law_68
def dkwL_law_66 : List UInt8 := [167, 2, 156, 43, 182, 0, 240, 44, 182, 0, 243, 159, 2, 145, 3, 172, 43, 182, 0, 244, 44, 182, 0, 247]
abbrev dktL_law_66 : List UInt8 := dkwL_law_66 ++ dktL_law_67
def dkwL_law_65 : List UInt8 := [21, 6, 159, 0, 5, 3, 172, 21, 6, 154, 0, 15, 45, 3, 47, 21, 7, 133, 148, 153, 0, 5, 3, 172]
abbrev dktL_law_65 : List UInt8 := dkwL_law_65 ++ dktL_law_66
def dkwL_law_64 : List UInt8 := [46, 45, 184, 0, 237, 54, 6, 44, 42, 21, 5, 4, 96, 46, 182, 0, 239, 54, 7, 44, 182, 0, 138]
abbrev dktL_law_64 : List UInt8 := dkwL_law_64 ++ dktL_law_65
def dkwL_law_63 : List UInt8 := [154, 0, 15, 45, 3, 47, 21, 7, 133, 148, 153, 0, 5, 3, 172, 167, 2, 212, 43, 42, 21, 5, 4, 96]
abbrev dktL_law_63 : List UInt8 := dkwL_law_63 ++ dktL_law_64
def dkwL_law_62 : List UInt8 := [21, 5, 4, 96, 46, 182, 0, 236, 54, 7, 44, 182, 0, 138, 21, 6, 159, 0, 5, 3, 172, 21, 6]
abbrev dktL_law_62 : List UInt8 := dkwL_law_62 ++ dktL_law_63
def dkwL_law_61 : List UInt8 := [182, 0, 233, 159, 3, 14, 3, 172, 43, 42, 21, 5, 4, 96, 46, 45, 184, 0, 234, 54, 6, 44, 42]
abbrev dktL_law_61 : List UInt8 := dkwL_law_61 ++ dktL_law_62
def dkwL_law_60 : List UInt8 := [154, 0, 15, 45, 3, 47, 21, 7, 133, 148, 153, 0, 5, 3, 172, 167, 3, 25, 43, 182, 0, 230, 44]
abbrev dktL_law_60 : List UInt8 := dkwL_law_60 ++ dktL_law_61
def dkwL_law_59 : List UInt8 := [21, 5, 4, 96, 46, 182, 0, 229, 54, 7, 44, 182, 0, 138, 21, 6, 159, 0, 5, 3, 172, 21, 6]
abbrev dktL_law_59 : List UInt8 := dkwL_law_59 ++ dktL_law_60
def dkwL_law_58 : List UInt8 := [153, 0, 5, 3, 172, 167, 3, 81, 43, 42, 21, 5, 4, 96, 46, 45, 184, 0, 227, 54, 6, 44, 42]
abbrev dktL_law_58 : List UInt8 := dkwL_law_58 ++ dktL_law_59
def dkwL_law_57 : List UInt8 := [182, 0, 138, 21, 6, 159, 0, 5, 3, 172, 21, 6, 154, 0, 15, 45, 3, 47, 21, 7, 133, 148]
abbrev dktL_law_57 : List UInt8 := dkwL_law_57 ++ dktL_law_58
def dkwL_law_56 : List UInt8 := [21, 5, 4, 96, 46, 45, 184, 0, 224, 54, 6, 44, 42, 21, 5, 4, 96, 46, 182, 0, 226, 54, 7, 44]
abbrev dktL_law_56 : List UInt8 := dkwL_law_56 ++ dktL_law_57
def dkwL_law_55 : List UInt8 := [172, 21, 6, 154, 0, 15, 45, 3, 47, 21, 7, 133, 148, 153, 0, 5, 3, 172, 167, 3, 137, 43, 42]
abbrev dktL_law_55 : List UInt8 := dkwL_law_55 ++ dktL_law_56
def dkwL_law_54 : List UInt8 := [54, 6, 44, 42, 21, 5, 4, 96, 46, 182, 0, 223, 54, 7, 44, 182, 0, 138, 21, 6, 159, 0, 5, 3]
abbrev dktL_law_54 : List UInt8 := dkwL_law_54 ++ dktL_law_55
def dkwL_law_53 : List UInt8 := [21, 7, 133, 148, 153, 0, 5, 3, 172, 167, 3, 193, 43, 42, 21, 5, 4, 96, 46, 45, 184, 0, 221]
abbrev dktL_law_53 : List UInt8 := dkwL_law_53 ++ dktL_law_54
def dkwL_law_52 : List UInt8 := [182, 0, 220, 54, 7, 44, 182, 0, 138, 21, 6, 159, 0, 5, 3, 172, 21, 6, 154, 0, 15, 45, 3, 47]
abbrev dktL_law_52 : List UInt8 := dkwL_law_52 ++ dktL_law_53
def dkwL_law_51 : List UInt8 := [167, 3, 249, 43, 42, 21, 5, 4, 96, 46, 45, 184, 0, 218, 54, 6, 44, 42, 21, 5, 4, 96, 46]
abbrev dktL_law_51 : List UInt8 := dkwL_law_51 ++ dktL_law_52
def dkwL_law_50 : List UInt8 := [21, 6, 159, 0, 5, 3, 172, 21, 6, 154, 0, 15, 45, 3, 47, 21, 7, 133, 148, 153, 0, 5, 3, 172]
abbrev dktL_law_50 : List UInt8 := dkwL_law_50 ++ dktL_law_51
def dkwL_law_49 : List UInt8 := [46, 45, 184, 0, 215, 54, 6, 44, 42, 21, 5, 4, 96, 46, 182, 0, 217, 54, 7, 44, 182, 0, 138]
abbrev dktL_law_49 : List UInt8 := dkwL_law_49 ++ dktL_law_50
def dkwL_law_48 : List UInt8 := [154, 0, 15, 45, 3, 47, 21, 7, 133, 148, 153, 0, 5, 3, 172, 167, 4, 49, 43, 42, 21, 5, 4, 96]
abbrev dktL_law_48 : List UInt8 := dkwL_law_48 ++ dktL_law_49
def dkwL_law_47 : List UInt8 := [21, 5, 4, 96, 46, 182, 0, 214, 54, 7, 44, 182, 0, 138, 21, 6, 159, 0, 5, 3, 172, 21, 6]
abbrev dktL_law_47 : List UInt8 := dkwL_law_47 ++ dktL_law_48
def dkwL_law_46 : List UInt8 := [182, 0, 211, 159, 4, 107, 3, 172, 43, 42, 21, 5, 4, 96, 46, 45, 184, 0, 212, 54, 6, 44, 42]
abbrev dktL_law_46 : List UInt8 := dkwL_law_46 ++ dktL_law_47
def dkwL_law_45 : List UInt8 := [159, 4, 133, 3, 172, 43, 182, 0, 204, 44, 182, 0, 207, 159, 4, 120, 3, 172, 43, 182, 0, 208, 44]
abbrev dktL_law_45 : List UInt8 := dkwL_law_45 ++ dktL_law_46
def dkwL_law_44 : List UInt8 := [45, 3, 47, 21, 7, 133, 148, 153, 0, 5, 3, 172, 167, 4, 144, 43, 182, 0, 200, 44, 182, 0, 203]
abbrev dktL_law_44 : List UInt8 := dkwL_law_44 ++ dktL_law_45
def dkwL_law_43 : List UInt8 := [5, 96, 46, 182, 0, 199, 54, 7, 44, 182, 0, 138, 21, 6, 159, 0, 5, 3, 172, 21, 6, 154, 0, 15]
abbrev dktL_law_43 : List UInt8 := dkwL_law_43 ++ dktL_law_44
def dkwL_law_42 : List UInt8 := [96, 46, 42, 21, 5, 5, 96, 46, 45, 184, 0, 197, 54, 6, 44, 42, 21, 5, 4, 96, 46, 42, 21, 5]
abbrev dktL_law_42 : List UInt8 := dkwL_law_42 ++ dktL_law_43
def dkwL_law_41 : List UInt8 := [21, 7, 153, 0, 7, 10, 167, 0, 4, 9, 148, 153, 0, 5, 3, 172, 167, 4, 212, 43, 42, 21, 5, 4]
abbrev dktL_law_41 : List UInt8 := dkwL_law_41 ++ dktL_law_42
def dkwL_law_40 : List UInt8 := [182, 0, 196, 54, 7, 44, 182, 0, 138, 21, 6, 159, 0, 5, 3, 172, 21, 6, 154, 0, 22, 45, 3, 47]
abbrev dktL_law_40 : List UInt8 := dkwL_law_40 ++ dktL_law_41
def dkwL_law_39 : List UInt8 := [167, 5, 19, 43, 42, 21, 5, 4, 96, 46, 45, 184, 0, 194, 54, 6, 44, 42, 21, 5, 4, 96, 46]
abbrev dktL_law_39 : List UInt8 := dkwL_law_39 ++ dktL_law_40
def dkwL_law_38 : List UInt8 := [21, 6, 159, 0, 5, 3, 172, 21, 6, 154, 0, 15, 45, 3, 47, 21, 7, 133, 148, 153, 0, 5, 3, 172]
abbrev dktL_law_38 : List UInt8 := dkwL_law_38 ++ dktL_law_39
def dkwL_law_37 : List UInt8 := [46, 45, 184, 0, 191, 54, 6, 44, 42, 21, 5, 4, 96, 46, 182, 0, 193, 54, 7, 44, 182, 0, 138]
abbrev dktL_law_37 : List UInt8 := dkwL_law_37 ++ dktL_law_38
def dkwL_law_36 : List UInt8 := [154, 0, 15, 45, 3, 47, 21, 7, 133, 148, 153, 0, 5, 3, 172, 167, 5, 75, 43, 42, 21, 5, 4, 96]
abbrev dktL_law_36 : List UInt8 := dkwL_law_36 ++ dktL_law_37
def dkwL_law_35 : List UInt8 := [21, 5, 4, 96, 46, 182, 0, 190, 54, 7, 44, 182, 0, 138, 21, 6, 159, 0, 5, 3, 172, 21, 6]
abbrev dktL_law_35 : List UInt8 := dkwL_law_35 ++ dktL_law_36
def dkwL_law_34 : List UInt8 := [148, 153, 0, 5, 3, 172, 167, 5, 131, 43, 42, 21, 5, 4, 96, 46, 45, 184, 0, 188, 54, 6, 44, 42]
abbrev dktL_law_34 : List UInt8 := dkwL_law_34 ++ dktL_law_35
def dkwL_law_33 : List UInt8 := [54, 7, 44, 182, 0, 138, 21, 6, 159, 0, 5, 3, 172, 21, 6, 154, 0, 15, 45, 3, 47, 21, 7, 133]
abbrev dktL_law_33 : List UInt8 := dkwL_law_33 ++ dktL_law_34
def dkwL_law_32 : List UInt8 := [172, 43, 42, 21, 5, 4, 96, 46, 45, 184, 0, 185, 54, 6, 44, 42, 21, 5, 4, 96, 46, 182, 0, 187]
abbrev dktL_law_32 : List UInt8 := dkwL_law_32 ++ dktL_law_33
def dkwL_law_31 : List UInt8 := [182, 0, 177, 44, 182, 0, 180, 159, 5, 202, 3, 172, 43, 182, 0, 181, 44, 182, 0, 184, 159, 5, 189, 3]
abbrev dktL_law_31 : List UInt8 := dkwL_law_31 ++ dktL_law_32
def dkwL_law_30 : List UInt8 := [172, 21, 6, 154, 0, 15, 45, 3, 47, 21, 7, 133, 148, 153, 0, 5, 3, 172, 167, 5, 213, 43]
abbrev dktL_law_30 : List UInt8 := dkwL_law_30 ++ dktL_law_31
def dkwL_law_29 : List UInt8 := [54, 6, 44, 42, 21, 5, 4, 96, 46, 182, 0, 176, 54, 7, 44, 182, 0, 138, 21, 6, 159, 0, 5, 3]
abbrev dktL_law_29 : List UInt8 := dkwL_law_29 ++ dktL_law_30
def dkwL_law_28 : List UInt8 := [21, 7, 133, 148, 153, 0, 5, 3, 172, 167, 6, 13, 43, 42, 21, 5, 4, 96, 46, 45, 184, 0, 174]
abbrev dktL_law_28 : List UInt8 := dkwL_law_28 ++ dktL_law_29
def dkwL_law_27 : List UInt8 := [182, 0, 173, 54, 7, 44, 182, 0, 138, 21, 6, 159, 0, 5, 3, 172, 21, 6, 154, 0, 15, 45, 3, 47]
abbrev dktL_law_27 : List UInt8 := dkwL_law_27 ++ dktL_law_28
def dkwL_law_26 : List UInt8 := [167, 6, 69, 43, 42, 21, 5, 4, 96, 46, 45, 184, 0, 171, 54, 6, 44, 42, 21, 5, 4, 96, 46]
abbrev dktL_law_26 : List UInt8 := dkwL_law_26 ++ dktL_law_27
def dkwL_law_25 : List UInt8 := [159, 0, 5, 3, 172, 21, 6, 154, 0, 15, 45, 3, 47, 21, 7, 133, 148, 153, 0, 5, 3, 172]
abbrev dktL_law_25 : List UInt8 := dkwL_law_25 ++ dktL_law_26
def dkwL_law_24 : List UInt8 := [21, 5, 4, 96, 46, 42, 21, 5, 5, 96, 46, 182, 0, 170, 54, 7, 44, 182, 0, 138, 21, 6]
abbrev dktL_law_24 : List UInt8 := dkwL_law_24 ++ dktL_law_25
def dkwL_law_23 : List UInt8 := [167, 6, 137, 43, 42, 21, 5, 4, 96, 46, 42, 21, 5, 5, 96, 46, 45, 184, 0, 168, 54, 6, 44, 42]
abbrev dktL_law_23 : List UInt8 := dkwL_law_23 ++ dktL_law_24
def dkwL_law_22 : List UInt8 := [159, 0, 5, 3, 172, 21, 6, 154, 0, 15, 45, 3, 47, 21, 7, 133, 148, 153, 0, 5, 3, 172]
abbrev dktL_law_22 : List UInt8 := dkwL_law_22 ++ dktL_law_23
def dkwL_law_21 : List UInt8 := [21, 5, 4, 96, 46, 42, 21, 5, 5, 96, 46, 182, 0, 167, 54, 7, 44, 182, 0, 138, 21, 6]
abbrev dktL_law_21 : List UInt8 := dkwL_law_21 ++ dktL_law_22
def dkwL_law_20 : List UInt8 := [167, 6, 205, 43, 42, 21, 5, 4, 96, 46, 42, 21, 5, 5, 96, 46, 45, 184, 0, 165, 54, 6, 44, 42]
abbrev dktL_law_20 : List UInt8 := dkwL_law_20 ++ dktL_law_21
def dkwL_law_19 : List UInt8 := [159, 0, 5, 3, 172, 21, 6, 154, 0, 15, 45, 3, 47, 21, 7, 133, 148, 153, 0, 5, 3, 172]
abbrev dktL_law_19 : List UInt8 := dkwL_law_19 ++ dktL_law_20
def dkwL_law_18 : List UInt8 := [21, 5, 4, 96, 46, 42, 21, 5, 5, 96, 46, 182, 0, 164, 54, 7, 44, 182, 0, 138, 21, 6]
abbrev dktL_law_18 : List UInt8 := dkwL_law_18 ++ dktL_law_19
def dkwL_law_17 : List UInt8 := [167, 7, 17, 43, 42, 21, 5, 4, 96, 46, 42, 21, 5, 5, 96, 46, 45, 184, 0, 162, 54, 6, 44, 42]
abbrev dktL_law_17 : List UInt8 := dkwL_law_17 ++ dktL_law_18
def dkwL_law_16 : List UInt8 := [159, 0, 5, 3, 172, 21, 6, 154, 0, 15, 45, 3, 47, 21, 7, 133, 148, 153, 0, 5, 3, 172]
abbrev dktL_law_16 : List UInt8 := dkwL_law_16 ++ dktL_law_17
def dkwL_law_15 : List UInt8 := [44, 42, 21, 5, 4, 96, 46, 42, 21, 5, 5, 96, 46, 182, 0, 161, 54, 7, 44, 182, 0, 138, 21, 6]
abbrev dktL_law_15 : List UInt8 := dkwL_law_15 ++ dktL_law_16
def dkwL_law_14 : List UInt8 := [159, 7, 87, 3, 172, 43, 42, 21, 5, 4, 96, 46, 42, 21, 5, 5, 96, 46, 45, 184, 0, 159, 54, 6]
abbrev dktL_law_14 : List UInt8 := dkwL_law_14 ++ dktL_law_15
def dkwL_law_13 : List UInt8 := [167, 7, 111, 43, 182, 0, 151, 44, 182, 0, 154, 159, 7, 100, 3, 172, 43, 182, 0, 155, 44, 182, 0, 158]
abbrev dktL_law_13 : List UInt8 := dkwL_law_13 ++ dktL_law_14
def dkwL_law_12 : List UInt8 := [21, 6, 159, 0, 5, 3, 172, 21, 6, 154, 0, 15, 45, 3, 47, 21, 7, 133, 148, 153, 0, 5, 3, 172]
abbrev dktL_law_12 : List UInt8 := dkwL_law_12 ++ dktL_law_13
def dkwL_law_11 : List UInt8 := [46, 45, 184, 0, 148, 54, 6, 44, 42, 21, 5, 4, 96, 46, 182, 0, 150, 54, 7, 44, 182, 0, 138]
abbrev dktL_law_11 : List UInt8 := dkwL_law_11 ++ dktL_law_12
def dkwL_law_10 : List UInt8 := [154, 0, 15, 45, 3, 47, 21, 7, 133, 148, 153, 0, 5, 3, 172, 167, 7, 167, 43, 42, 21, 5, 4, 96]
abbrev dktL_law_10 : List UInt8 := dkwL_law_10 ++ dktL_law_11
def dkwL_law_9 : List UInt8 := [21, 5, 4, 96, 46, 182, 0, 147, 54, 7, 44, 182, 0, 138, 21, 6, 159, 0, 5, 3, 172, 21, 6]
abbrev dktL_law_9 : List UInt8 := dkwL_law_9 ++ dktL_law_10
def dkwL_law_8 : List UInt8 := [153, 0, 5, 3, 172, 167, 7, 223, 43, 42, 21, 5, 4, 96, 46, 45, 184, 0, 145, 54, 6, 44, 42]
abbrev dktL_law_8 : List UInt8 := dkwL_law_8 ++ dktL_law_9
def dkwL_law_7 : List UInt8 := [182, 0, 138, 21, 6, 159, 0, 5, 3, 172, 21, 6, 154, 0, 15, 45, 3, 47, 21, 7, 133, 148]
abbrev dktL_law_7 : List UInt8 := dkwL_law_7 ++ dktL_law_8
def dkwL_law_6 : List UInt8 := [4, 96, 46, 45, 184, 0, 141, 54, 6, 44, 42, 21, 5, 4, 96, 46, 182, 0, 144, 54, 7, 44]
abbrev dktL_law_6 : List UInt8 := dkwL_law_6 ++ dktL_law_7
def dkwL_law_5 : List UInt8 := [21, 6, 154, 0, 15, 45, 3, 47, 21, 7, 133, 148, 153, 0, 5, 3, 172, 167, 8, 23, 43, 42, 21, 5]
abbrev dktL_law_5 : List UInt8 := dkwL_law_5 ++ dktL_law_6
def dkwL_law_4 : List UInt8 := [96, 46, 42, 21, 5, 5, 96, 46, 182, 0, 137, 54, 7, 44, 182, 0, 138, 21, 6, 159, 0, 5, 3, 172]
abbrev dktL_law_4 : List UInt8 := dkwL_law_4 ++ dktL_law_5
def dkwL_law_3 : List UInt8 := [43, 42, 21, 5, 4, 96, 46, 42, 21, 5, 5, 96, 46, 45, 184, 0, 132, 54, 6, 44, 42, 21, 5, 4]
abbrev dktL_law_3 : List UInt8 := dkwL_law_3 ++ dktL_law_4
def dkwL_law_2 : List UInt8 := [170, 0, 0, 0, 0, 0, 9, 56, 0, 0, 0, 0, 0, 0, 0, 51, 0, 0, 0, 224, 0, 0, 1, 36, 0, 0, 1, 92, 0, 0, 1, 148, 0, 0, 1, 204, 0, 0, 1, 217, 0, 0, 1, 230, 0, 0, 2, 42, 0, 0, 2, 110, 0, 0, 2, 178, 0, 0, 2, 246, 0, 0, 3, 46, 0, 0, 3, 102, 0, 0, 3, 115, 0, 0, 3, 128, 0, 0, 3, 184, 0, 0, 3, 240, 0, 0, 4, 40, 0, 0, 4, 103, 0, 0, 4, 171, 0, 0, 4, 184, 0, 0, 4, 197, 0, 0, 4, 210, 0, 0, 5, 10, 0, 0, 5, 66, 0, 0, 5, 122, 0, 0, 5, 178, 0, 0, 5, 234, 0, 0, 6, 34, 0, 0, 6, 47, 0, 0, 6, 103, 0, 0, 6, 159, 0, 0, 6, 172, 0, 0, 6, 185, 0, 0, 6, 198, 0, 0, 6, 211, 0, 0, 6, 224, 0, 0, 6, 237, 0, 0, 6, 251, 0, 0, 7, 8, 0, 0, 7, 73, 0, 0, 7, 139, 0, 0, 7, 195, 0, 0, 7, 208, 0, 0, 8, 8, 0, 0, 8, 21, 0, 0, 8, 79, 0, 0, 8, 123, 0, 0, 8, 167, 0, 0, 8, 211, 0, 0, 8, 255, 0, 0, 9, 12]
abbrev dktL_law_2 : List UInt8 := dkwL_law_2 ++ dktL_law_3
def dkwL_law_1 : List UInt8 := [58, 4, 3, 54, 5, 21, 5, 42, 190, 6, 100, 163, 9, 72, 42, 21, 5, 46, 16, 63, 126]
abbrev dktL_law_1 : List UInt8 := dkwL_law_1 ++ dktL_law_2
def dkwL_law_0 : List UInt8 := [187, 0, 8, 89, 183, 0, 128, 76, 187, 0, 129, 89, 183, 0, 131, 77, 4, 188, 11, 78, 4, 188, 7]
abbrev dktL_law_0 : List UInt8 := dkwL_law_0 ++ dktL_law_1
theorem dksL_law_0 : cL_law.data.toList.drop 0 = dktL_law_0 := by decide +kernel
theorem dksL_law_1 : cL_law.data.toList.drop 23 = dktL_law_1 := dk_seg dksL_law_0 23 rfl rfl
theorem dksL_law_2 : cL_law.data.toList.drop 44 = dktL_law_2 := dk_seg dksL_law_1 21 rfl rfl
theorem dksL_law_3 : cL_law.data.toList.drop 268 = dktL_law_3 := dk_seg dksL_law_2 224 rfl rfl
theorem dksL_law_4 : cL_law.data.toList.drop 292 = dktL_law_4 := dk_seg dksL_law_3 24 rfl rfl
theorem dksL_law_5 : cL_law.data.toList.drop 316 = dktL_law_5 := dk_seg dksL_law_4 24 rfl rfl
theorem dksL_law_6 : cL_law.data.toList.drop 340 = dktL_law_6 := dk_seg dksL_law_5 24 rfl rfl
theorem dksL_law_7 : cL_law.data.toList.drop 362 = dktL_law_7 := dk_seg dksL_law_6 22 rfl rfl
theorem dksL_law_8 : cL_law.data.toList.drop 384 = dktL_law_8 := dk_seg dksL_law_7 22 rfl rfl
theorem dksL_law_9 : cL_law.data.toList.drop 407 = dktL_law_9 := dk_seg dksL_law_8 23 rfl rfl
theorem dksL_law_10 : cL_law.data.toList.drop 430 = dktL_law_10 := dk_seg dksL_law_9 23 rfl rfl
theorem dksL_law_11 : cL_law.data.toList.drop 454 = dktL_law_11 := dk_seg dksL_law_10 24 rfl rfl
theorem dksL_law_12 : cL_law.data.toList.drop 477 = dktL_law_12 := dk_seg dksL_law_11 23 rfl rfl
theorem dksL_law_13 : cL_law.data.toList.drop 501 = dktL_law_13 := dk_seg dksL_law_12 24 rfl rfl
theorem dksL_law_14 : cL_law.data.toList.drop 525 = dktL_law_14 := dk_seg dksL_law_13 24 rfl rfl
theorem dksL_law_15 : cL_law.data.toList.drop 549 = dktL_law_15 := dk_seg dksL_law_14 24 rfl rfl
theorem dksL_law_16 : cL_law.data.toList.drop 573 = dktL_law_16 := dk_seg dksL_law_15 24 rfl rfl
theorem dksL_law_17 : cL_law.data.toList.drop 595 = dktL_law_17 := dk_seg dksL_law_16 22 rfl rfl
theorem dksL_law_18 : cL_law.data.toList.drop 619 = dktL_law_18 := dk_seg dksL_law_17 24 rfl rfl
theorem dksL_law_19 : cL_law.data.toList.drop 641 = dktL_law_19 := dk_seg dksL_law_18 22 rfl rfl
theorem dksL_law_20 : cL_law.data.toList.drop 663 = dktL_law_20 := dk_seg dksL_law_19 22 rfl rfl
theorem dksL_law_21 : cL_law.data.toList.drop 687 = dktL_law_21 := dk_seg dksL_law_20 24 rfl rfl
theorem dksL_law_22 : cL_law.data.toList.drop 709 = dktL_law_22 := dk_seg dksL_law_21 22 rfl rfl
theorem dksL_law_23 : cL_law.data.toList.drop 731 = dktL_law_23 := dk_seg dksL_law_22 22 rfl rfl
theorem dksL_law_24 : cL_law.data.toList.drop 755 = dktL_law_24 := dk_seg dksL_law_23 24 rfl rfl
theorem dksL_law_25 : cL_law.data.toList.drop 777 = dktL_law_25 := dk_seg dksL_law_24 22 rfl rfl
theorem dksL_law_26 : cL_law.data.toList.drop 799 = dktL_law_26 := dk_seg dksL_law_25 22 rfl rfl
theorem dksL_law_27 : cL_law.data.toList.drop 822 = dktL_law_27 := dk_seg dksL_law_26 23 rfl rfl
theorem dksL_law_28 : cL_law.data.toList.drop 846 = dktL_law_28 := dk_seg dksL_law_27 24 rfl rfl
theorem dksL_law_29 : cL_law.data.toList.drop 869 = dktL_law_29 := dk_seg dksL_law_28 23 rfl rfl
theorem dksL_law_30 : cL_law.data.toList.drop 893 = dktL_law_30 := dk_seg dksL_law_29 24 rfl rfl
theorem dksL_law_31 : cL_law.data.toList.drop 915 = dktL_law_31 := dk_seg dksL_law_30 22 rfl rfl
theorem dksL_law_32 : cL_law.data.toList.drop 939 = dktL_law_32 := dk_seg dksL_law_31 24 rfl rfl
theorem dksL_law_33 : cL_law.data.toList.drop 963 = dktL_law_33 := dk_seg dksL_law_32 24 rfl rfl
theorem dksL_law_34 : cL_law.data.toList.drop 987 = dktL_law_34 := dk_seg dksL_law_33 24 rfl rfl
theorem dksL_law_35 : cL_law.data.toList.drop 1011 = dktL_law_35 := dk_seg dksL_law_34 24 rfl rfl
theorem dksL_law_36 : cL_law.data.toList.drop 1034 = dktL_law_36 := dk_seg dksL_law_35 23 rfl rfl
theorem dksL_law_37 : cL_law.data.toList.drop 1058 = dktL_law_37 := dk_seg dksL_law_36 24 rfl rfl
theorem dksL_law_38 : cL_law.data.toList.drop 1081 = dktL_law_38 := dk_seg dksL_law_37 23 rfl rfl
theorem dksL_law_39 : cL_law.data.toList.drop 1105 = dktL_law_39 := dk_seg dksL_law_38 24 rfl rfl
theorem dksL_law_40 : cL_law.data.toList.drop 1128 = dktL_law_40 := dk_seg dksL_law_39 23 rfl rfl
theorem dksL_law_41 : cL_law.data.toList.drop 1152 = dktL_law_41 := dk_seg dksL_law_40 24 rfl rfl
theorem dksL_law_42 : cL_law.data.toList.drop 1176 = dktL_law_42 := dk_seg dksL_law_41 24 rfl rfl
theorem dksL_law_43 : cL_law.data.toList.drop 1200 = dktL_law_43 := dk_seg dksL_law_42 24 rfl rfl
theorem dksL_law_44 : cL_law.data.toList.drop 1224 = dktL_law_44 := dk_seg dksL_law_43 24 rfl rfl
theorem dksL_law_45 : cL_law.data.toList.drop 1247 = dktL_law_45 := dk_seg dksL_law_44 23 rfl rfl
theorem dksL_law_46 : cL_law.data.toList.drop 1270 = dktL_law_46 := dk_seg dksL_law_45 23 rfl rfl
theorem dksL_law_47 : cL_law.data.toList.drop 1293 = dktL_law_47 := dk_seg dksL_law_46 23 rfl rfl
theorem dksL_law_48 : cL_law.data.toList.drop 1316 = dktL_law_48 := dk_seg dksL_law_47 23 rfl rfl
theorem dksL_law_49 : cL_law.data.toList.drop 1340 = dktL_law_49 := dk_seg dksL_law_48 24 rfl rfl
theorem dksL_law_50 : cL_law.data.toList.drop 1363 = dktL_law_50 := dk_seg dksL_law_49 23 rfl rfl
theorem dksL_law_51 : cL_law.data.toList.drop 1387 = dktL_law_51 := dk_seg dksL_law_50 24 rfl rfl
theorem dksL_law_52 : cL_law.data.toList.drop 1410 = dktL_law_52 := dk_seg dksL_law_51 23 rfl rfl
theorem dksL_law_53 : cL_law.data.toList.drop 1434 = dktL_law_53 := dk_seg dksL_law_52 24 rfl rfl
theorem dksL_law_54 : cL_law.data.toList.drop 1457 = dktL_law_54 := dk_seg dksL_law_53 23 rfl rfl
theorem dksL_law_55 : cL_law.data.toList.drop 1481 = dktL_law_55 := dk_seg dksL_law_54 24 rfl rfl
theorem dksL_law_56 : cL_law.data.toList.drop 1504 = dktL_law_56 := dk_seg dksL_law_55 23 rfl rfl
theorem dksL_law_57 : cL_law.data.toList.drop 1528 = dktL_law_57 := dk_seg dksL_law_56 24 rfl rfl
theorem dksL_law_58 : cL_law.data.toList.drop 1550 = dktL_law_58 := dk_seg dksL_law_57 22 rfl rfl
theorem dksL_law_59 : cL_law.data.toList.drop 1573 = dktL_law_59 := dk_seg dksL_law_58 23 rfl rfl
theorem dksL_law_60 : cL_law.data.toList.drop 1596 = dktL_law_60 := dk_seg dksL_law_59 23 rfl rfl
theorem dksL_law_61 : cL_law.data.toList.drop 1619 = dktL_law_61 := dk_seg dksL_law_60 23 rfl rfl
theorem dksL_law_62 : cL_law.data.toList.drop 1642 = dktL_law_62 := dk_seg dksL_law_61 23 rfl rfl
theorem dksL_law_63 : cL_law.data.toList.drop 1665 = dktL_law_63 := dk_seg dksL_law_62 23 rfl rfl
theorem dksL_law_64 : cL_law.data.toList.drop 1689 = dktL_law_64 := dk_seg dksL_law_63 24 rfl rfl
theorem dksL_law_65 : cL_law.data.toList.drop 1712 = dktL_law_65 := dk_seg dksL_law_64 23 rfl rfl
theorem dksL_law_66 : cL_law.data.toList.drop 1736 = dktL_law_66 := dk_seg dksL_law_65 24 rfl rfl
theorem dksL_law_67 : cL_law.data.toList.drop 1760 = dktL_law_67 := dk_seg dksL_law_66 24 rfl rfl
theorem dksL_law_68 : cL_law.data.toList.drop 1783 = dktL_law_68 := dk_seg dksL_law_67 23 rfl rfl
theorem dksL_law_69 : cL_law.data.toList.drop 1805 = dktL_law_69 := dk_seg dksL_law_68 22 rfl rfl
theorem dksL_law_70 : cL_law.data.toList.drop 1829 = dktL_law_70 := dk_seg dksL_law_69 24 rfl rfl
theorem dksL_law_71 : cL_law.data.toList.drop 1853 = dktL_law_71 := dk_seg dksL_law_70 24 rfl rfl
theorem dksL_law_72 : cL_law.data.toList.drop 1877 = dktL_law_72 := dk_seg dksL_law_71 24 rfl rfl
theorem dksL_law_73 : cL_law.data.toList.drop 1901 = dktL_law_73 := dk_seg dksL_law_72 24 rfl rfl
theorem dksL_law_74 : cL_law.data.toList.drop 1924 = dktL_law_74 := dk_seg dksL_law_73 23 rfl rfl
theorem dksL_law_75 : cL_law.data.toList.drop 1947 = dktL_law_75 := dk_seg dksL_law_74 23 rfl rfl
theorem dksL_law_76 : cL_law.data.toList.drop 1971 = dktL_law_76 := dk_seg dksL_law_75 24 rfl rfl
theorem dksL_law_77 : cL_law.data.toList.drop 1995 = dktL_law_77 := dk_seg dksL_law_76 24 rfl rfl
theorem dksL_law_78 : cL_law.data.toList.drop 2019 = dktL_law_78 := dk_seg dksL_law_77 24 rfl rfl
theorem dksL_law_79 : cL_law.data.toList.drop 2043 = dktL_law_79 := dk_seg dksL_law_78 24 rfl rfl
theorem dksL_law_80 : cL_law.data.toList.drop 2067 = dktL_law_80 := dk_seg dksL_law_79 24 rfl rfl
theorem dksL_law_81 : cL_law.data.toList.drop 2091 = dktL_law_81 := dk_seg dksL_law_80 24 rfl rfl
theorem dksL_law_82 : cL_law.data.toList.drop 2115 = dktL_law_82 := dk_seg dksL_law_81 24 rfl rfl
theorem dksL_law_83 : cL_law.data.toList.drop 2138 = dktL_law_83 := dk_seg dksL_law_82 23 rfl rfl
theorem dksL_law_84 : cL_law.data.toList.drop 2162 = dktL_law_84 := dk_seg dksL_law_83 24 rfl rfl
theorem dksL_law_85 : cL_law.data.toList.drop 2185 = dktL_law_85 := dk_seg dksL_law_84 23 rfl rfl
theorem dksL_law_86 : cL_law.data.toList.drop 2207 = dktL_law_86 := dk_seg dksL_law_85 22 rfl rfl
theorem dksL_law_87 : cL_law.data.toList.drop 2229 = dktL_law_87 := dk_seg dksL_law_86 22 rfl rfl
theorem dksL_law_88 : cL_law.data.toList.drop 2251 = dktL_law_88 := dk_seg dksL_law_87 22 rfl rfl
theorem dksL_law_89 : cL_law.data.toList.drop 2273 = dktL_law_89 := dk_seg dksL_law_88 22 rfl rfl
theorem dksL_law_90 : cL_law.data.toList.drop 2295 = dktL_law_90 := dk_seg dksL_law_89 22 rfl rfl
theorem dksL_law_91 : cL_law.data.toList.drop 2317 = dktL_law_91 := dk_seg dksL_law_90 22 rfl rfl
theorem dksL_law_92 : cL_law.data.toList.drop 2339 = dktL_law_92 := dk_seg dksL_law_91 22 rfl rfl
theorem dksL_law_93 : cL_law.data.toList.drop 2362 = dktL_law_93 := dk_seg dksL_law_92 23 rfl rfl
theorem dksL_law_94 : cL_law.data.toList.drop 2386 = dktL_law_94 := dk_seg dksL_law_93 24 rfl rfl
theorem dksL_law_95 : cL_law.data.toList.drop 2410 = dktL_law_95 := dk_seg dksL_law_94 24 rfl rfl
theorem dL_law_0 : decode cL_law 0 = .ok (.new 8, 3) := dk_187 0 8 (dk_at dksL_law_0 0 rfl rfl)
theorem dL_law_3 : decode cL_law 3 = .ok (.dup, 1) := dk_89 (dk_at dksL_law_0 3 rfl rfl)
theorem dL_law_4 : decode cL_law 4 = .ok (.invokespecial 128, 3) := dk_183 0 128 (dk_at dksL_law_0 4 rfl rfl)
theorem dL_law_7 : decode cL_law 7 = .ok (.astore_n 1, 1) := dk_76 (dk_at dksL_law_0 7 rfl rfl)
theorem dL_law_8 : decode cL_law 8 = .ok (.new 129, 3) := dk_187 0 129 (dk_at dksL_law_0 8 rfl rfl)
theorem dL_law_11 : decode cL_law 11 = .ok (.dup, 1) := dk_89 (dk_at dksL_law_0 11 rfl rfl)
theorem dL_law_12 : decode cL_law 12 = .ok (.invokespecial 131, 3) := dk_183 0 131 (dk_at dksL_law_0 12 rfl rfl)
theorem dL_law_15 : decode cL_law 15 = .ok (.astore_n 2, 1) := dk_77 (dk_at dksL_law_0 15 rfl rfl)
theorem dL_law_16 : decode cL_law 16 = .ok (.iconst 1, 1) := dk_4 (dk_at dksL_law_0 16 rfl rfl)
theorem dL_law_17 : decode cL_law 17 = .ok (.newarray .long, 2) := dk_188_11 (dk_at dksL_law_0 17 rfl rfl)
theorem dL_law_19 : decode cL_law 19 = .ok (.astore_n 3, 1) := dk_78 (dk_at dksL_law_0 19 rfl rfl)
theorem dL_law_20 : decode cL_law 20 = .ok (.iconst 1, 1) := dk_4 (dk_at dksL_law_0 20 rfl rfl)
theorem dL_law_21 : decode cL_law 21 = .ok (.newarray .double, 2) := dk_188_7 (dk_at dksL_law_0 21 rfl rfl)
theorem dL_law_23 : decode cL_law 23 = .ok (.astore 4, 2) := dk_58 4 (dk_at dksL_law_1 0 rfl rfl)
theorem dL_law_25 : decode cL_law 25 = .ok (.iconst 0, 1) := dk_3 (dk_at dksL_law_1 2 rfl rfl)
theorem dL_law_26 : decode cL_law 26 = .ok (.istore 5, 2) := dk_54 5 (dk_at dksL_law_1 3 rfl rfl)
theorem dL_law_28 : decode cL_law 28 = .ok (.iload 5, 2) := dk_21 5 (dk_at dksL_law_1 5 rfl rfl)
theorem dL_law_30 : decode cL_law 30 = .ok (.aload_n 0, 1) := dk_42 (dk_at dksL_law_1 7 rfl rfl)
theorem dL_law_31 : decode cL_law 31 = .ok (.arraylength, 1) := dk_190 (dk_at dksL_law_1 8 rfl rfl)
theorem dL_law_32 : decode cL_law 32 = .ok (.iconst 3, 1) := dk_6 (dk_at dksL_law_1 9 rfl rfl)
theorem dL_law_33 : decode cL_law 33 = .ok (.isub, 1) := dk_100 (dk_at dksL_law_1 10 rfl rfl)
theorem dL_law_34 : decode cL_law 34 = .ok (.if_icmp .gt 2376, 3) := dk_163 9 72 (dk_at dksL_law_1 11 rfl rfl)
theorem dL_law_37 : decode cL_law 37 = .ok (.aload_n 0, 1) := dk_42 (dk_at dksL_law_1 14 rfl rfl)
theorem dL_law_38 : decode cL_law 38 = .ok (.iload 5, 2) := dk_21 5 (dk_at dksL_law_1 15 rfl rfl)
theorem dL_law_40 : decode cL_law 40 = .ok (.iaload, 1) := dk_46 (dk_at dksL_law_1 17 rfl rfl)
theorem dL_law_41 : decode cL_law 41 = .ok (.bipush 63, 2) := dk_16 63 (dk_at dksL_law_1 18 rfl rfl)
theorem dL_law_43 : decode cL_law 43 = .ok (.iand, 1) := dk_126 (dk_at dksL_law_1 20 rfl rfl)
theorem dL_law_44 : decode cL_law 44 = .ok (.tableswitch 2360 0 51 #[224, 292, 348, 404, 460, 473, 486, 554, 622, 690, 758, 814, 870, 883, 896, 952, 1008, 1064, 1127, 1195, 1208, 1221, 1234, 1290, 1346, 1402, 1458, 1514, 1570, 1583, 1639, 1695, 1708, 1721, 1734, 1747, 1760, 1773, 1787, 1800, 1865, 1931, 1987, 2000, 2056, 2069, 2127, 2171, 2215, 2259, 2303, 2316], 224) := by decide +kernel
theorem dL_law_268 : decode cL_law 268 = .ok (.aload_n 1, 1) := dk_43 (dk_at dksL_law_3 0 rfl rfl)
theorem dL_law_269 : decode cL_law 269 = .ok (.aload_n 0, 1) := dk_42 (dk_at dksL_law_3 1 rfl rfl)
theorem dL_law_270 : decode cL_law 270 = .ok (.iload 5, 2) := dk_21 5 (dk_at dksL_law_3 2 rfl rfl)
theorem dL_law_272 : decode cL_law 272 = .ok (.iconst 1, 1) := dk_4 (dk_at dksL_law_3 4 rfl rfl)
theorem dL_law_273 : decode cL_law 273 = .ok (.iadd, 1) := dk_96 (dk_at dksL_law_3 5 rfl rfl)
theorem dL_law_274 : decode cL_law 274 = .ok (.iaload, 1) := dk_46 (dk_at dksL_law_3 6 rfl rfl)
theorem dL_law_275 : decode cL_law 275 = .ok (.aload_n 0, 1) := dk_42 (dk_at dksL_law_3 7 rfl rfl)
theorem dL_law_276 : decode cL_law 276 = .ok (.iload 5, 2) := dk_21 5 (dk_at dksL_law_3 8 rfl rfl)
theorem dL_law_278 : decode cL_law 278 = .ok (.iconst 2, 1) := dk_5 (dk_at dksL_law_3 10 rfl rfl)
theorem dL_law_279 : decode cL_law 279 = .ok (.iadd, 1) := dk_96 (dk_at dksL_law_3 11 rfl rfl)
theorem dL_law_280 : decode cL_law 280 = .ok (.iaload, 1) := dk_46 (dk_at dksL_law_3 12 rfl rfl)
theorem dL_law_281 : decode cL_law 281 = .ok (.aload_n 3, 1) := dk_45 (dk_at dksL_law_3 13 rfl rfl)
theorem dL_law_282 : decode cL_law 282 = .ok (.invokestatic 132, 3) := dk_184 0 132 (dk_at dksL_law_3 14 rfl rfl)
theorem dL_law_285 : decode cL_law 285 = .ok (.istore 6, 2) := dk_54 6 (dk_at dksL_law_3 17 rfl rfl)
theorem dL_law_287 : decode cL_law 287 = .ok (.aload_n 2, 1) := dk_44 (dk_at dksL_law_3 19 rfl rfl)
theorem dL_law_288 : decode cL_law 288 = .ok (.aload_n 0, 1) := dk_42 (dk_at dksL_law_3 20 rfl rfl)
theorem dL_law_289 : decode cL_law 289 = .ok (.iload 5, 2) := dk_21 5 (dk_at dksL_law_3 21 rfl rfl)
theorem dL_law_291 : decode cL_law 291 = .ok (.iconst 1, 1) := dk_4 (dk_at dksL_law_3 23 rfl rfl)
theorem dL_law_292 : decode cL_law 292 = .ok (.iadd, 1) := dk_96 (dk_at dksL_law_4 0 rfl rfl)
theorem dL_law_293 : decode cL_law 293 = .ok (.iaload, 1) := dk_46 (dk_at dksL_law_4 1 rfl rfl)
theorem dL_law_294 : decode cL_law 294 = .ok (.aload_n 0, 1) := dk_42 (dk_at dksL_law_4 2 rfl rfl)
theorem dL_law_295 : decode cL_law 295 = .ok (.iload 5, 2) := dk_21 5 (dk_at dksL_law_4 3 rfl rfl)
theorem dL_law_297 : decode cL_law 297 = .ok (.iconst 2, 1) := dk_5 (dk_at dksL_law_4 5 rfl rfl)
theorem dL_law_298 : decode cL_law 298 = .ok (.iadd, 1) := dk_96 (dk_at dksL_law_4 6 rfl rfl)
theorem dL_law_299 : decode cL_law 299 = .ok (.iaload, 1) := dk_46 (dk_at dksL_law_4 7 rfl rfl)
theorem dL_law_300 : decode cL_law 300 = .ok (.invokevirtual 137, 3) := dk_182 0 137 (dk_at dksL_law_4 8 rfl rfl)
theorem dL_law_303 : decode cL_law 303 = .ok (.istore 7, 2) := dk_54 7 (dk_at dksL_law_4 11 rfl rfl)
theorem dL_law_305 : decode cL_law 305 = .ok (.aload_n 2, 1) := dk_44 (dk_at dksL_law_4 13 rfl rfl)
theorem dL_law_306 : decode cL_law 306 = .ok (.invokevirtual 138, 3) := dk_182 0 138 (dk_at dksL_law_4 14 rfl rfl)
theorem dL_law_309 : decode cL_law 309 = .ok (.iload 6, 2) := dk_21 6 (dk_at dksL_law_4 17 rfl rfl)
theorem dL_law_311 : decode cL_law 311 = .ok (.if_icmp .eq 5, 3) := dk_159 0 5 (dk_at dksL_law_4 19 rfl rfl)
theorem dL_law_314 : decode cL_law 314 = .ok (.iconst 0, 1) := dk_3 (dk_at dksL_law_4 22 rfl rfl)
theorem dL_law_315 : decode cL_law 315 = .ok (.ireturn, 1) := dk_172 (dk_at dksL_law_4 23 rfl rfl)
theorem dL_law_316 : decode cL_law 316 = .ok (.iload 6, 2) := dk_21 6 (dk_at dksL_law_5 0 rfl rfl)
theorem dL_law_318 : decode cL_law 318 = .ok (.ifCond .ne 15, 3) := dk_154 0 15 (dk_at dksL_law_5 2 rfl rfl)
theorem dL_law_321 : decode cL_law 321 = .ok (.aload_n 3, 1) := dk_45 (dk_at dksL_law_5 5 rfl rfl)
theorem dL_law_322 : decode cL_law 322 = .ok (.iconst 0, 1) := dk_3 (dk_at dksL_law_5 6 rfl rfl)
theorem dL_law_323 : decode cL_law 323 = .ok (.laload, 1) := dk_47 (dk_at dksL_law_5 7 rfl rfl)
theorem dL_law_324 : decode cL_law 324 = .ok (.iload 7, 2) := dk_21 7 (dk_at dksL_law_5 8 rfl rfl)
theorem dL_law_326 : decode cL_law 326 = .ok (.i2l, 1) := dk_133 (dk_at dksL_law_5 10 rfl rfl)
theorem dL_law_327 : decode cL_law 327 = .ok (.lcmp, 1) := dk_148 (dk_at dksL_law_5 11 rfl rfl)
theorem dL_law_328 : decode cL_law 328 = .ok (.ifCond .eq 5, 3) := dk_153 0 5 (dk_at dksL_law_5 12 rfl rfl)
theorem dL_law_331 : decode cL_law 331 = .ok (.iconst 0, 1) := dk_3 (dk_at dksL_law_5 15 rfl rfl)
theorem dL_law_332 : decode cL_law 332 = .ok (.ireturn, 1) := dk_172 (dk_at dksL_law_5 16 rfl rfl)
theorem dL_law_333 : decode cL_law 333 = .ok (.goto 2071, 3) := dk_167 8 23 (dk_at dksL_law_5 17 rfl rfl)
theorem dL_law_336 : decode cL_law 336 = .ok (.aload_n 1, 1) := dk_43 (dk_at dksL_law_5 20 rfl rfl)
theorem dL_law_337 : decode cL_law 337 = .ok (.aload_n 0, 1) := dk_42 (dk_at dksL_law_5 21 rfl rfl)
theorem dL_law_338 : decode cL_law 338 = .ok (.iload 5, 2) := dk_21 5 (dk_at dksL_law_5 22 rfl rfl)
theorem dL_law_340 : decode cL_law 340 = .ok (.iconst 1, 1) := dk_4 (dk_at dksL_law_6 0 rfl rfl)
theorem dL_law_341 : decode cL_law 341 = .ok (.iadd, 1) := dk_96 (dk_at dksL_law_6 1 rfl rfl)
theorem dL_law_342 : decode cL_law 342 = .ok (.iaload, 1) := dk_46 (dk_at dksL_law_6 2 rfl rfl)
theorem dL_law_343 : decode cL_law 343 = .ok (.aload_n 3, 1) := dk_45 (dk_at dksL_law_6 3 rfl rfl)
theorem dL_law_344 : decode cL_law 344 = .ok (.invokestatic 141, 3) := dk_184 0 141 (dk_at dksL_law_6 4 rfl rfl)
theorem dL_law_347 : decode cL_law 347 = .ok (.istore 6, 2) := dk_54 6 (dk_at dksL_law_6 7 rfl rfl)
theorem dL_law_349 : decode cL_law 349 = .ok (.aload_n 2, 1) := dk_44 (dk_at dksL_law_6 9 rfl rfl)
theorem dL_law_350 : decode cL_law 350 = .ok (.aload_n 0, 1) := dk_42 (dk_at dksL_law_6 10 rfl rfl)
theorem dL_law_351 : decode cL_law 351 = .ok (.iload 5, 2) := dk_21 5 (dk_at dksL_law_6 11 rfl rfl)
theorem dL_law_353 : decode cL_law 353 = .ok (.iconst 1, 1) := dk_4 (dk_at dksL_law_6 13 rfl rfl)
theorem dL_law_354 : decode cL_law 354 = .ok (.iadd, 1) := dk_96 (dk_at dksL_law_6 14 rfl rfl)
theorem dL_law_355 : decode cL_law 355 = .ok (.iaload, 1) := dk_46 (dk_at dksL_law_6 15 rfl rfl)
theorem dL_law_356 : decode cL_law 356 = .ok (.invokevirtual 144, 3) := dk_182 0 144 (dk_at dksL_law_6 16 rfl rfl)
theorem dL_law_359 : decode cL_law 359 = .ok (.istore 7, 2) := dk_54 7 (dk_at dksL_law_6 19 rfl rfl)
theorem dL_law_361 : decode cL_law 361 = .ok (.aload_n 2, 1) := dk_44 (dk_at dksL_law_6 21 rfl rfl)
theorem dL_law_362 : decode cL_law 362 = .ok (.invokevirtual 138, 3) := dk_182 0 138 (dk_at dksL_law_7 0 rfl rfl)
theorem dL_law_365 : decode cL_law 365 = .ok (.iload 6, 2) := dk_21 6 (dk_at dksL_law_7 3 rfl rfl)
theorem dL_law_367 : decode cL_law 367 = .ok (.if_icmp .eq 5, 3) := dk_159 0 5 (dk_at dksL_law_7 5 rfl rfl)
theorem dL_law_370 : decode cL_law 370 = .ok (.iconst 0, 1) := dk_3 (dk_at dksL_law_7 8 rfl rfl)
theorem dL_law_371 : decode cL_law 371 = .ok (.ireturn, 1) := dk_172 (dk_at dksL_law_7 9 rfl rfl)
theorem dL_law_372 : decode cL_law 372 = .ok (.iload 6, 2) := dk_21 6 (dk_at dksL_law_7 10 rfl rfl)
theorem dL_law_374 : decode cL_law 374 = .ok (.ifCond .ne 15, 3) := dk_154 0 15 (dk_at dksL_law_7 12 rfl rfl)
theorem dL_law_377 : decode cL_law 377 = .ok (.aload_n 3, 1) := dk_45 (dk_at dksL_law_7 15 rfl rfl)
theorem dL_law_378 : decode cL_law 378 = .ok (.iconst 0, 1) := dk_3 (dk_at dksL_law_7 16 rfl rfl)
theorem dL_law_379 : decode cL_law 379 = .ok (.laload, 1) := dk_47 (dk_at dksL_law_7 17 rfl rfl)
theorem dL_law_380 : decode cL_law 380 = .ok (.iload 7, 2) := dk_21 7 (dk_at dksL_law_7 18 rfl rfl)
theorem dL_law_382 : decode cL_law 382 = .ok (.i2l, 1) := dk_133 (dk_at dksL_law_7 20 rfl rfl)
theorem dL_law_383 : decode cL_law 383 = .ok (.lcmp, 1) := dk_148 (dk_at dksL_law_7 21 rfl rfl)
theorem dL_law_384 : decode cL_law 384 = .ok (.ifCond .eq 5, 3) := dk_153 0 5 (dk_at dksL_law_8 0 rfl rfl)
theorem dL_law_387 : decode cL_law 387 = .ok (.iconst 0, 1) := dk_3 (dk_at dksL_law_8 3 rfl rfl)
theorem dL_law_388 : decode cL_law 388 = .ok (.ireturn, 1) := dk_172 (dk_at dksL_law_8 4 rfl rfl)
theorem dL_law_389 : decode cL_law 389 = .ok (.goto 2015, 3) := dk_167 7 223 (dk_at dksL_law_8 5 rfl rfl)
theorem dL_law_392 : decode cL_law 392 = .ok (.aload_n 1, 1) := dk_43 (dk_at dksL_law_8 8 rfl rfl)
theorem dL_law_393 : decode cL_law 393 = .ok (.aload_n 0, 1) := dk_42 (dk_at dksL_law_8 9 rfl rfl)
theorem dL_law_394 : decode cL_law 394 = .ok (.iload 5, 2) := dk_21 5 (dk_at dksL_law_8 10 rfl rfl)
theorem dL_law_396 : decode cL_law 396 = .ok (.iconst 1, 1) := dk_4 (dk_at dksL_law_8 12 rfl rfl)
theorem dL_law_397 : decode cL_law 397 = .ok (.iadd, 1) := dk_96 (dk_at dksL_law_8 13 rfl rfl)
theorem dL_law_398 : decode cL_law 398 = .ok (.iaload, 1) := dk_46 (dk_at dksL_law_8 14 rfl rfl)
theorem dL_law_399 : decode cL_law 399 = .ok (.aload_n 3, 1) := dk_45 (dk_at dksL_law_8 15 rfl rfl)
theorem dL_law_400 : decode cL_law 400 = .ok (.invokestatic 145, 3) := dk_184 0 145 (dk_at dksL_law_8 16 rfl rfl)
theorem dL_law_403 : decode cL_law 403 = .ok (.istore 6, 2) := dk_54 6 (dk_at dksL_law_8 19 rfl rfl)
theorem dL_law_405 : decode cL_law 405 = .ok (.aload_n 2, 1) := dk_44 (dk_at dksL_law_8 21 rfl rfl)
theorem dL_law_406 : decode cL_law 406 = .ok (.aload_n 0, 1) := dk_42 (dk_at dksL_law_8 22 rfl rfl)
theorem dL_law_407 : decode cL_law 407 = .ok (.iload 5, 2) := dk_21 5 (dk_at dksL_law_9 0 rfl rfl)
theorem dL_law_409 : decode cL_law 409 = .ok (.iconst 1, 1) := dk_4 (dk_at dksL_law_9 2 rfl rfl)
theorem dL_law_410 : decode cL_law 410 = .ok (.iadd, 1) := dk_96 (dk_at dksL_law_9 3 rfl rfl)
theorem dL_law_411 : decode cL_law 411 = .ok (.iaload, 1) := dk_46 (dk_at dksL_law_9 4 rfl rfl)
theorem dL_law_412 : decode cL_law 412 = .ok (.invokevirtual 147, 3) := dk_182 0 147 (dk_at dksL_law_9 5 rfl rfl)
theorem dL_law_415 : decode cL_law 415 = .ok (.istore 7, 2) := dk_54 7 (dk_at dksL_law_9 8 rfl rfl)
theorem dL_law_417 : decode cL_law 417 = .ok (.aload_n 2, 1) := dk_44 (dk_at dksL_law_9 10 rfl rfl)
theorem dL_law_418 : decode cL_law 418 = .ok (.invokevirtual 138, 3) := dk_182 0 138 (dk_at dksL_law_9 11 rfl rfl)
theorem dL_law_421 : decode cL_law 421 = .ok (.iload 6, 2) := dk_21 6 (dk_at dksL_law_9 14 rfl rfl)
theorem dL_law_423 : decode cL_law 423 = .ok (.if_icmp .eq 5, 3) := dk_159 0 5 (dk_at dksL_law_9 16 rfl rfl)
theorem dL_law_426 : decode cL_law 426 = .ok (.iconst 0, 1) := dk_3 (dk_at dksL_law_9 19 rfl rfl)
theorem dL_law_427 : decode cL_law 427 = .ok (.ireturn, 1) := dk_172 (dk_at dksL_law_9 20 rfl rfl)
theorem dL_law_428 : decode cL_law 428 = .ok (.iload 6, 2) := dk_21 6 (dk_at dksL_law_9 21 rfl rfl)
theorem dL_law_430 : decode cL_law 430 = .ok (.ifCond .ne 15, 3) := dk_154 0 15 (dk_at dksL_law_10 0 rfl rfl)
theorem dL_law_433 : decode cL_law 433 = .ok (.aload_n 3, 1) := dk_45 (dk_at dksL_law_10 3 rfl rfl)
theorem dL_law_434 : decode cL_law 434 = .ok (.iconst 0, 1) := dk_3 (dk_at dksL_law_10 4 rfl rfl)
theorem dL_law_435 : decode cL_law 435 = .ok (.laload, 1) := dk_47 (dk_at dksL_law_10 5 rfl rfl)
theorem dL_law_436 : decode cL_law 436 = .ok (.iload 7, 2) := dk_21 7 (dk_at dksL_law_10 6 rfl rfl)
theorem dL_law_438 : decode cL_law 438 = .ok (.i2l, 1) := dk_133 (dk_at dksL_law_10 8 rfl rfl)
theorem dL_law_439 : decode cL_law 439 = .ok (.lcmp, 1) := dk_148 (dk_at dksL_law_10 9 rfl rfl)
theorem dL_law_440 : decode cL_law 440 = .ok (.ifCond .eq 5, 3) := dk_153 0 5 (dk_at dksL_law_10 10 rfl rfl)
theorem dL_law_443 : decode cL_law 443 = .ok (.iconst 0, 1) := dk_3 (dk_at dksL_law_10 13 rfl rfl)
theorem dL_law_444 : decode cL_law 444 = .ok (.ireturn, 1) := dk_172 (dk_at dksL_law_10 14 rfl rfl)
theorem dL_law_445 : decode cL_law 445 = .ok (.goto 1959, 3) := dk_167 7 167 (dk_at dksL_law_10 15 rfl rfl)
theorem dL_law_448 : decode cL_law 448 = .ok (.aload_n 1, 1) := dk_43 (dk_at dksL_law_10 18 rfl rfl)
theorem dL_law_449 : decode cL_law 449 = .ok (.aload_n 0, 1) := dk_42 (dk_at dksL_law_10 19 rfl rfl)
theorem dL_law_450 : decode cL_law 450 = .ok (.iload 5, 2) := dk_21 5 (dk_at dksL_law_10 20 rfl rfl)
theorem dL_law_452 : decode cL_law 452 = .ok (.iconst 1, 1) := dk_4 (dk_at dksL_law_10 22 rfl rfl)
theorem dL_law_453 : decode cL_law 453 = .ok (.iadd, 1) := dk_96 (dk_at dksL_law_10 23 rfl rfl)
theorem dL_law_454 : decode cL_law 454 = .ok (.iaload, 1) := dk_46 (dk_at dksL_law_11 0 rfl rfl)
theorem dL_law_455 : decode cL_law 455 = .ok (.aload_n 3, 1) := dk_45 (dk_at dksL_law_11 1 rfl rfl)
theorem dL_law_456 : decode cL_law 456 = .ok (.invokestatic 148, 3) := dk_184 0 148 (dk_at dksL_law_11 2 rfl rfl)
theorem dL_law_459 : decode cL_law 459 = .ok (.istore 6, 2) := dk_54 6 (dk_at dksL_law_11 5 rfl rfl)
theorem dL_law_461 : decode cL_law 461 = .ok (.aload_n 2, 1) := dk_44 (dk_at dksL_law_11 7 rfl rfl)
theorem dL_law_462 : decode cL_law 462 = .ok (.aload_n 0, 1) := dk_42 (dk_at dksL_law_11 8 rfl rfl)
theorem dL_law_463 : decode cL_law 463 = .ok (.iload 5, 2) := dk_21 5 (dk_at dksL_law_11 9 rfl rfl)
theorem dL_law_465 : decode cL_law 465 = .ok (.iconst 1, 1) := dk_4 (dk_at dksL_law_11 11 rfl rfl)
theorem dL_law_466 : decode cL_law 466 = .ok (.iadd, 1) := dk_96 (dk_at dksL_law_11 12 rfl rfl)
theorem dL_law_467 : decode cL_law 467 = .ok (.iaload, 1) := dk_46 (dk_at dksL_law_11 13 rfl rfl)
theorem dL_law_468 : decode cL_law 468 = .ok (.invokevirtual 150, 3) := dk_182 0 150 (dk_at dksL_law_11 14 rfl rfl)
theorem dL_law_471 : decode cL_law 471 = .ok (.istore 7, 2) := dk_54 7 (dk_at dksL_law_11 17 rfl rfl)
theorem dL_law_473 : decode cL_law 473 = .ok (.aload_n 2, 1) := dk_44 (dk_at dksL_law_11 19 rfl rfl)
theorem dL_law_474 : decode cL_law 474 = .ok (.invokevirtual 138, 3) := dk_182 0 138 (dk_at dksL_law_11 20 rfl rfl)
theorem dL_law_477 : decode cL_law 477 = .ok (.iload 6, 2) := dk_21 6 (dk_at dksL_law_12 0 rfl rfl)
theorem dL_law_479 : decode cL_law 479 = .ok (.if_icmp .eq 5, 3) := dk_159 0 5 (dk_at dksL_law_12 2 rfl rfl)
theorem dL_law_482 : decode cL_law 482 = .ok (.iconst 0, 1) := dk_3 (dk_at dksL_law_12 5 rfl rfl)
theorem dL_law_483 : decode cL_law 483 = .ok (.ireturn, 1) := dk_172 (dk_at dksL_law_12 6 rfl rfl)
theorem dL_law_484 : decode cL_law 484 = .ok (.iload 6, 2) := dk_21 6 (dk_at dksL_law_12 7 rfl rfl)
theorem dL_law_486 : decode cL_law 486 = .ok (.ifCond .ne 15, 3) := dk_154 0 15 (dk_at dksL_law_12 9 rfl rfl)
theorem dL_law_489 : decode cL_law 489 = .ok (.aload_n 3, 1) := dk_45 (dk_at dksL_law_12 12 rfl rfl)
theorem dL_law_490 : decode cL_law 490 = .ok (.iconst 0, 1) := dk_3 (dk_at dksL_law_12 13 rfl rfl)
theorem dL_law_491 : decode cL_law 491 = .ok (.laload, 1) := dk_47 (dk_at dksL_law_12 14 rfl rfl)
theorem dL_law_492 : decode cL_law 492 = .ok (.iload 7, 2) := dk_21 7 (dk_at dksL_law_12 15 rfl rfl)
theorem dL_law_494 : decode cL_law 494 = .ok (.i2l, 1) := dk_133 (dk_at dksL_law_12 17 rfl rfl)
theorem dL_law_495 : decode cL_law 495 = .ok (.lcmp, 1) := dk_148 (dk_at dksL_law_12 18 rfl rfl)
theorem dL_law_496 : decode cL_law 496 = .ok (.ifCond .eq 5, 3) := dk_153 0 5 (dk_at dksL_law_12 19 rfl rfl)
theorem dL_law_499 : decode cL_law 499 = .ok (.iconst 0, 1) := dk_3 (dk_at dksL_law_12 22 rfl rfl)
theorem dL_law_500 : decode cL_law 500 = .ok (.ireturn, 1) := dk_172 (dk_at dksL_law_12 23 rfl rfl)
theorem dL_law_501 : decode cL_law 501 = .ok (.goto 1903, 3) := dk_167 7 111 (dk_at dksL_law_13 0 rfl rfl)
theorem dL_law_504 : decode cL_law 504 = .ok (.aload_n 1, 1) := dk_43 (dk_at dksL_law_13 3 rfl rfl)
theorem dL_law_505 : decode cL_law 505 = .ok (.invokevirtual 151, 3) := dk_182 0 151 (dk_at dksL_law_13 4 rfl rfl)
theorem dL_law_508 : decode cL_law 508 = .ok (.aload_n 2, 1) := dk_44 (dk_at dksL_law_13 7 rfl rfl)
theorem dL_law_509 : decode cL_law 509 = .ok (.invokevirtual 154, 3) := dk_182 0 154 (dk_at dksL_law_13 8 rfl rfl)
theorem dL_law_512 : decode cL_law 512 = .ok (.if_icmp .eq 1892, 3) := dk_159 7 100 (dk_at dksL_law_13 11 rfl rfl)
theorem dL_law_515 : decode cL_law 515 = .ok (.iconst 0, 1) := dk_3 (dk_at dksL_law_13 14 rfl rfl)
theorem dL_law_516 : decode cL_law 516 = .ok (.ireturn, 1) := dk_172 (dk_at dksL_law_13 15 rfl rfl)
theorem dL_law_517 : decode cL_law 517 = .ok (.aload_n 1, 1) := dk_43 (dk_at dksL_law_13 16 rfl rfl)
theorem dL_law_518 : decode cL_law 518 = .ok (.invokevirtual 155, 3) := dk_182 0 155 (dk_at dksL_law_13 17 rfl rfl)
theorem dL_law_521 : decode cL_law 521 = .ok (.aload_n 2, 1) := dk_44 (dk_at dksL_law_13 20 rfl rfl)
theorem dL_law_522 : decode cL_law 522 = .ok (.invokevirtual 158, 3) := dk_182 0 158 (dk_at dksL_law_13 21 rfl rfl)
theorem dL_law_525 : decode cL_law 525 = .ok (.if_icmp .eq 1879, 3) := dk_159 7 87 (dk_at dksL_law_14 0 rfl rfl)
theorem dL_law_528 : decode cL_law 528 = .ok (.iconst 0, 1) := dk_3 (dk_at dksL_law_14 3 rfl rfl)
theorem dL_law_529 : decode cL_law 529 = .ok (.ireturn, 1) := dk_172 (dk_at dksL_law_14 4 rfl rfl)
theorem dL_law_530 : decode cL_law 530 = .ok (.aload_n 1, 1) := dk_43 (dk_at dksL_law_14 5 rfl rfl)
theorem dL_law_531 : decode cL_law 531 = .ok (.aload_n 0, 1) := dk_42 (dk_at dksL_law_14 6 rfl rfl)
theorem dL_law_532 : decode cL_law 532 = .ok (.iload 5, 2) := dk_21 5 (dk_at dksL_law_14 7 rfl rfl)
theorem dL_law_534 : decode cL_law 534 = .ok (.iconst 1, 1) := dk_4 (dk_at dksL_law_14 9 rfl rfl)
theorem dL_law_535 : decode cL_law 535 = .ok (.iadd, 1) := dk_96 (dk_at dksL_law_14 10 rfl rfl)
theorem dL_law_536 : decode cL_law 536 = .ok (.iaload, 1) := dk_46 (dk_at dksL_law_14 11 rfl rfl)
theorem dL_law_537 : decode cL_law 537 = .ok (.aload_n 0, 1) := dk_42 (dk_at dksL_law_14 12 rfl rfl)
theorem dL_law_538 : decode cL_law 538 = .ok (.iload 5, 2) := dk_21 5 (dk_at dksL_law_14 13 rfl rfl)
theorem dL_law_540 : decode cL_law 540 = .ok (.iconst 2, 1) := dk_5 (dk_at dksL_law_14 15 rfl rfl)
theorem dL_law_541 : decode cL_law 541 = .ok (.iadd, 1) := dk_96 (dk_at dksL_law_14 16 rfl rfl)
theorem dL_law_542 : decode cL_law 542 = .ok (.iaload, 1) := dk_46 (dk_at dksL_law_14 17 rfl rfl)
theorem dL_law_543 : decode cL_law 543 = .ok (.aload_n 3, 1) := dk_45 (dk_at dksL_law_14 18 rfl rfl)
theorem dL_law_544 : decode cL_law 544 = .ok (.invokestatic 159, 3) := dk_184 0 159 (dk_at dksL_law_14 19 rfl rfl)
theorem dL_law_547 : decode cL_law 547 = .ok (.istore 6, 2) := dk_54 6 (dk_at dksL_law_14 22 rfl rfl)
theorem dL_law_549 : decode cL_law 549 = .ok (.aload_n 2, 1) := dk_44 (dk_at dksL_law_15 0 rfl rfl)
theorem dL_law_550 : decode cL_law 550 = .ok (.aload_n 0, 1) := dk_42 (dk_at dksL_law_15 1 rfl rfl)
theorem dL_law_551 : decode cL_law 551 = .ok (.iload 5, 2) := dk_21 5 (dk_at dksL_law_15 2 rfl rfl)
theorem dL_law_553 : decode cL_law 553 = .ok (.iconst 1, 1) := dk_4 (dk_at dksL_law_15 4 rfl rfl)
theorem dL_law_554 : decode cL_law 554 = .ok (.iadd, 1) := dk_96 (dk_at dksL_law_15 5 rfl rfl)
theorem dL_law_555 : decode cL_law 555 = .ok (.iaload, 1) := dk_46 (dk_at dksL_law_15 6 rfl rfl)
theorem dL_law_556 : decode cL_law 556 = .ok (.aload_n 0, 1) := dk_42 (dk_at dksL_law_15 7 rfl rfl)
theorem dL_law_557 : decode cL_law 557 = .ok (.iload 5, 2) := dk_21 5 (dk_at dksL_law_15 8 rfl rfl)
theorem dL_law_559 : decode cL_law 559 = .ok (.iconst 2, 1) := dk_5 (dk_at dksL_law_15 10 rfl rfl)
theorem dL_law_560 : decode cL_law 560 = .ok (.iadd, 1) := dk_96 (dk_at dksL_law_15 11 rfl rfl)
theorem dL_law_561 : decode cL_law 561 = .ok (.iaload, 1) := dk_46 (dk_at dksL_law_15 12 rfl rfl)
theorem dL_law_562 : decode cL_law 562 = .ok (.invokevirtual 161, 3) := dk_182 0 161 (dk_at dksL_law_15 13 rfl rfl)
theorem dL_law_565 : decode cL_law 565 = .ok (.istore 7, 2) := dk_54 7 (dk_at dksL_law_15 16 rfl rfl)
theorem dL_law_567 : decode cL_law 567 = .ok (.aload_n 2, 1) := dk_44 (dk_at dksL_law_15 18 rfl rfl)
theorem dL_law_568 : decode cL_law 568 = .ok (.invokevirtual 138, 3) := dk_182 0 138 (dk_at dksL_law_15 19 rfl rfl)
theorem dL_law_571 : decode cL_law 571 = .ok (.iload 6, 2) := dk_21 6 (dk_at dksL_law_15 22 rfl rfl)
theorem dL_law_573 : decode cL_law 573 = .ok (.if_icmp .eq 5, 3) := dk_159 0 5 (dk_at dksL_law_16 0 rfl rfl)
theorem dL_law_576 : decode cL_law 576 = .ok (.iconst 0, 1) := dk_3 (dk_at dksL_law_16 3 rfl rfl)
theorem dL_law_577 : decode cL_law 577 = .ok (.ireturn, 1) := dk_172 (dk_at dksL_law_16 4 rfl rfl)
theorem dL_law_578 : decode cL_law 578 = .ok (.iload 6, 2) := dk_21 6 (dk_at dksL_law_16 5 rfl rfl)
theorem dL_law_580 : decode cL_law 580 = .ok (.ifCond .ne 15, 3) := dk_154 0 15 (dk_at dksL_law_16 7 rfl rfl)
theorem dL_law_583 : decode cL_law 583 = .ok (.aload_n 3, 1) := dk_45 (dk_at dksL_law_16 10 rfl rfl)
theorem dL_law_584 : decode cL_law 584 = .ok (.iconst 0, 1) := dk_3 (dk_at dksL_law_16 11 rfl rfl)
theorem dL_law_585 : decode cL_law 585 = .ok (.laload, 1) := dk_47 (dk_at dksL_law_16 12 rfl rfl)
theorem dL_law_586 : decode cL_law 586 = .ok (.iload 7, 2) := dk_21 7 (dk_at dksL_law_16 13 rfl rfl)
theorem dL_law_588 : decode cL_law 588 = .ok (.i2l, 1) := dk_133 (dk_at dksL_law_16 15 rfl rfl)
theorem dL_law_589 : decode cL_law 589 = .ok (.lcmp, 1) := dk_148 (dk_at dksL_law_16 16 rfl rfl)
theorem dL_law_590 : decode cL_law 590 = .ok (.ifCond .eq 5, 3) := dk_153 0 5 (dk_at dksL_law_16 17 rfl rfl)
theorem dL_law_593 : decode cL_law 593 = .ok (.iconst 0, 1) := dk_3 (dk_at dksL_law_16 20 rfl rfl)
theorem dL_law_594 : decode cL_law 594 = .ok (.ireturn, 1) := dk_172 (dk_at dksL_law_16 21 rfl rfl)
theorem dL_law_595 : decode cL_law 595 = .ok (.goto 1809, 3) := dk_167 7 17 (dk_at dksL_law_17 0 rfl rfl)
theorem dL_law_598 : decode cL_law 598 = .ok (.aload_n 1, 1) := dk_43 (dk_at dksL_law_17 3 rfl rfl)
theorem dL_law_599 : decode cL_law 599 = .ok (.aload_n 0, 1) := dk_42 (dk_at dksL_law_17 4 rfl rfl)
theorem dL_law_600 : decode cL_law 600 = .ok (.iload 5, 2) := dk_21 5 (dk_at dksL_law_17 5 rfl rfl)
theorem dL_law_602 : decode cL_law 602 = .ok (.iconst 1, 1) := dk_4 (dk_at dksL_law_17 7 rfl rfl)
theorem dL_law_603 : decode cL_law 603 = .ok (.iadd, 1) := dk_96 (dk_at dksL_law_17 8 rfl rfl)
theorem dL_law_604 : decode cL_law 604 = .ok (.iaload, 1) := dk_46 (dk_at dksL_law_17 9 rfl rfl)
theorem dL_law_605 : decode cL_law 605 = .ok (.aload_n 0, 1) := dk_42 (dk_at dksL_law_17 10 rfl rfl)
theorem dL_law_606 : decode cL_law 606 = .ok (.iload 5, 2) := dk_21 5 (dk_at dksL_law_17 11 rfl rfl)
theorem dL_law_608 : decode cL_law 608 = .ok (.iconst 2, 1) := dk_5 (dk_at dksL_law_17 13 rfl rfl)
theorem dL_law_609 : decode cL_law 609 = .ok (.iadd, 1) := dk_96 (dk_at dksL_law_17 14 rfl rfl)
theorem dL_law_610 : decode cL_law 610 = .ok (.iaload, 1) := dk_46 (dk_at dksL_law_17 15 rfl rfl)
theorem dL_law_611 : decode cL_law 611 = .ok (.aload_n 3, 1) := dk_45 (dk_at dksL_law_17 16 rfl rfl)
theorem dL_law_612 : decode cL_law 612 = .ok (.invokestatic 162, 3) := dk_184 0 162 (dk_at dksL_law_17 17 rfl rfl)
theorem dL_law_615 : decode cL_law 615 = .ok (.istore 6, 2) := dk_54 6 (dk_at dksL_law_17 20 rfl rfl)
theorem dL_law_617 : decode cL_law 617 = .ok (.aload_n 2, 1) := dk_44 (dk_at dksL_law_17 22 rfl rfl)
theorem dL_law_618 : decode cL_law 618 = .ok (.aload_n 0, 1) := dk_42 (dk_at dksL_law_17 23 rfl rfl)
theorem dL_law_619 : decode cL_law 619 = .ok (.iload 5, 2) := dk_21 5 (dk_at dksL_law_18 0 rfl rfl)
theorem dL_law_621 : decode cL_law 621 = .ok (.iconst 1, 1) := dk_4 (dk_at dksL_law_18 2 rfl rfl)
theorem dL_law_622 : decode cL_law 622 = .ok (.iadd, 1) := dk_96 (dk_at dksL_law_18 3 rfl rfl)
theorem dL_law_623 : decode cL_law 623 = .ok (.iaload, 1) := dk_46 (dk_at dksL_law_18 4 rfl rfl)
theorem dL_law_624 : decode cL_law 624 = .ok (.aload_n 0, 1) := dk_42 (dk_at dksL_law_18 5 rfl rfl)
theorem dL_law_625 : decode cL_law 625 = .ok (.iload 5, 2) := dk_21 5 (dk_at dksL_law_18 6 rfl rfl)
theorem dL_law_627 : decode cL_law 627 = .ok (.iconst 2, 1) := dk_5 (dk_at dksL_law_18 8 rfl rfl)
theorem dL_law_628 : decode cL_law 628 = .ok (.iadd, 1) := dk_96 (dk_at dksL_law_18 9 rfl rfl)
theorem dL_law_629 : decode cL_law 629 = .ok (.iaload, 1) := dk_46 (dk_at dksL_law_18 10 rfl rfl)
theorem dL_law_630 : decode cL_law 630 = .ok (.invokevirtual 164, 3) := dk_182 0 164 (dk_at dksL_law_18 11 rfl rfl)
theorem dL_law_633 : decode cL_law 633 = .ok (.istore 7, 2) := dk_54 7 (dk_at dksL_law_18 14 rfl rfl)
theorem dL_law_635 : decode cL_law 635 = .ok (.aload_n 2, 1) := dk_44 (dk_at dksL_law_18 16 rfl rfl)
theorem dL_law_636 : decode cL_law 636 = .ok (.invokevirtual 138, 3) := dk_182 0 138 (dk_at dksL_law_18 17 rfl rfl)
theorem dL_law_639 : decode cL_law 639 = .ok (.iload 6, 2) := dk_21 6 (dk_at dksL_law_18 20 rfl rfl)
theorem dL_law_641 : decode cL_law 641 = .ok (.if_icmp .eq 5, 3) := dk_159 0 5 (dk_at dksL_law_19 0 rfl rfl)
theorem dL_law_644 : decode cL_law 644 = .ok (.iconst 0, 1) := dk_3 (dk_at dksL_law_19 3 rfl rfl)
theorem dL_law_645 : decode cL_law 645 = .ok (.ireturn, 1) := dk_172 (dk_at dksL_law_19 4 rfl rfl)
theorem dL_law_646 : decode cL_law 646 = .ok (.iload 6, 2) := dk_21 6 (dk_at dksL_law_19 5 rfl rfl)
theorem dL_law_648 : decode cL_law 648 = .ok (.ifCond .ne 15, 3) := dk_154 0 15 (dk_at dksL_law_19 7 rfl rfl)
theorem dL_law_651 : decode cL_law 651 = .ok (.aload_n 3, 1) := dk_45 (dk_at dksL_law_19 10 rfl rfl)
theorem dL_law_652 : decode cL_law 652 = .ok (.iconst 0, 1) := dk_3 (dk_at dksL_law_19 11 rfl rfl)
theorem dL_law_653 : decode cL_law 653 = .ok (.laload, 1) := dk_47 (dk_at dksL_law_19 12 rfl rfl)
theorem dL_law_654 : decode cL_law 654 = .ok (.iload 7, 2) := dk_21 7 (dk_at dksL_law_19 13 rfl rfl)
theorem dL_law_656 : decode cL_law 656 = .ok (.i2l, 1) := dk_133 (dk_at dksL_law_19 15 rfl rfl)
theorem dL_law_657 : decode cL_law 657 = .ok (.lcmp, 1) := dk_148 (dk_at dksL_law_19 16 rfl rfl)
theorem dL_law_658 : decode cL_law 658 = .ok (.ifCond .eq 5, 3) := dk_153 0 5 (dk_at dksL_law_19 17 rfl rfl)
theorem dL_law_661 : decode cL_law 661 = .ok (.iconst 0, 1) := dk_3 (dk_at dksL_law_19 20 rfl rfl)
theorem dL_law_662 : decode cL_law 662 = .ok (.ireturn, 1) := dk_172 (dk_at dksL_law_19 21 rfl rfl)
theorem dL_law_663 : decode cL_law 663 = .ok (.goto 1741, 3) := dk_167 6 205 (dk_at dksL_law_20 0 rfl rfl)
theorem dL_law_666 : decode cL_law 666 = .ok (.aload_n 1, 1) := dk_43 (dk_at dksL_law_20 3 rfl rfl)
theorem dL_law_667 : decode cL_law 667 = .ok (.aload_n 0, 1) := dk_42 (dk_at dksL_law_20 4 rfl rfl)
theorem dL_law_668 : decode cL_law 668 = .ok (.iload 5, 2) := dk_21 5 (dk_at dksL_law_20 5 rfl rfl)
theorem dL_law_670 : decode cL_law 670 = .ok (.iconst 1, 1) := dk_4 (dk_at dksL_law_20 7 rfl rfl)
theorem dL_law_671 : decode cL_law 671 = .ok (.iadd, 1) := dk_96 (dk_at dksL_law_20 8 rfl rfl)
theorem dL_law_672 : decode cL_law 672 = .ok (.iaload, 1) := dk_46 (dk_at dksL_law_20 9 rfl rfl)
theorem dL_law_673 : decode cL_law 673 = .ok (.aload_n 0, 1) := dk_42 (dk_at dksL_law_20 10 rfl rfl)
theorem dL_law_674 : decode cL_law 674 = .ok (.iload 5, 2) := dk_21 5 (dk_at dksL_law_20 11 rfl rfl)
theorem dL_law_676 : decode cL_law 676 = .ok (.iconst 2, 1) := dk_5 (dk_at dksL_law_20 13 rfl rfl)
theorem dL_law_677 : decode cL_law 677 = .ok (.iadd, 1) := dk_96 (dk_at dksL_law_20 14 rfl rfl)
theorem dL_law_678 : decode cL_law 678 = .ok (.iaload, 1) := dk_46 (dk_at dksL_law_20 15 rfl rfl)
theorem dL_law_679 : decode cL_law 679 = .ok (.aload_n 3, 1) := dk_45 (dk_at dksL_law_20 16 rfl rfl)
theorem dL_law_680 : decode cL_law 680 = .ok (.invokestatic 165, 3) := dk_184 0 165 (dk_at dksL_law_20 17 rfl rfl)
theorem dL_law_683 : decode cL_law 683 = .ok (.istore 6, 2) := dk_54 6 (dk_at dksL_law_20 20 rfl rfl)
theorem dL_law_685 : decode cL_law 685 = .ok (.aload_n 2, 1) := dk_44 (dk_at dksL_law_20 22 rfl rfl)
theorem dL_law_686 : decode cL_law 686 = .ok (.aload_n 0, 1) := dk_42 (dk_at dksL_law_20 23 rfl rfl)
theorem dL_law_687 : decode cL_law 687 = .ok (.iload 5, 2) := dk_21 5 (dk_at dksL_law_21 0 rfl rfl)
theorem dL_law_689 : decode cL_law 689 = .ok (.iconst 1, 1) := dk_4 (dk_at dksL_law_21 2 rfl rfl)
theorem dL_law_690 : decode cL_law 690 = .ok (.iadd, 1) := dk_96 (dk_at dksL_law_21 3 rfl rfl)
theorem dL_law_691 : decode cL_law 691 = .ok (.iaload, 1) := dk_46 (dk_at dksL_law_21 4 rfl rfl)
theorem dL_law_692 : decode cL_law 692 = .ok (.aload_n 0, 1) := dk_42 (dk_at dksL_law_21 5 rfl rfl)
theorem dL_law_693 : decode cL_law 693 = .ok (.iload 5, 2) := dk_21 5 (dk_at dksL_law_21 6 rfl rfl)
theorem dL_law_695 : decode cL_law 695 = .ok (.iconst 2, 1) := dk_5 (dk_at dksL_law_21 8 rfl rfl)
theorem dL_law_696 : decode cL_law 696 = .ok (.iadd, 1) := dk_96 (dk_at dksL_law_21 9 rfl rfl)
theorem dL_law_697 : decode cL_law 697 = .ok (.iaload, 1) := dk_46 (dk_at dksL_law_21 10 rfl rfl)
theorem dL_law_698 : decode cL_law 698 = .ok (.invokevirtual 167, 3) := dk_182 0 167 (dk_at dksL_law_21 11 rfl rfl)
theorem dL_law_701 : decode cL_law 701 = .ok (.istore 7, 2) := dk_54 7 (dk_at dksL_law_21 14 rfl rfl)
theorem dL_law_703 : decode cL_law 703 = .ok (.aload_n 2, 1) := dk_44 (dk_at dksL_law_21 16 rfl rfl)
theorem dL_law_704 : decode cL_law 704 = .ok (.invokevirtual 138, 3) := dk_182 0 138 (dk_at dksL_law_21 17 rfl rfl)
theorem dL_law_707 : decode cL_law 707 = .ok (.iload 6, 2) := dk_21 6 (dk_at dksL_law_21 20 rfl rfl)
theorem dL_law_709 : decode cL_law 709 = .ok (.if_icmp .eq 5, 3) := dk_159 0 5 (dk_at dksL_law_22 0 rfl rfl)
theorem dL_law_712 : decode cL_law 712 = .ok (.iconst 0, 1) := dk_3 (dk_at dksL_law_22 3 rfl rfl)
theorem dL_law_713 : decode cL_law 713 = .ok (.ireturn, 1) := dk_172 (dk_at dksL_law_22 4 rfl rfl)
theorem dL_law_714 : decode cL_law 714 = .ok (.iload 6, 2) := dk_21 6 (dk_at dksL_law_22 5 rfl rfl)
theorem dL_law_716 : decode cL_law 716 = .ok (.ifCond .ne 15, 3) := dk_154 0 15 (dk_at dksL_law_22 7 rfl rfl)
theorem dL_law_719 : decode cL_law 719 = .ok (.aload_n 3, 1) := dk_45 (dk_at dksL_law_22 10 rfl rfl)
theorem dL_law_720 : decode cL_law 720 = .ok (.iconst 0, 1) := dk_3 (dk_at dksL_law_22 11 rfl rfl)
theorem dL_law_721 : decode cL_law 721 = .ok (.laload, 1) := dk_47 (dk_at dksL_law_22 12 rfl rfl)
theorem dL_law_722 : decode cL_law 722 = .ok (.iload 7, 2) := dk_21 7 (dk_at dksL_law_22 13 rfl rfl)
theorem dL_law_724 : decode cL_law 724 = .ok (.i2l, 1) := dk_133 (dk_at dksL_law_22 15 rfl rfl)
theorem dL_law_725 : decode cL_law 725 = .ok (.lcmp, 1) := dk_148 (dk_at dksL_law_22 16 rfl rfl)
theorem dL_law_726 : decode cL_law 726 = .ok (.ifCond .eq 5, 3) := dk_153 0 5 (dk_at dksL_law_22 17 rfl rfl)
theorem dL_law_729 : decode cL_law 729 = .ok (.iconst 0, 1) := dk_3 (dk_at dksL_law_22 20 rfl rfl)
theorem dL_law_730 : decode cL_law 730 = .ok (.ireturn, 1) := dk_172 (dk_at dksL_law_22 21 rfl rfl)
theorem dL_law_731 : decode cL_law 731 = .ok (.goto 1673, 3) := dk_167 6 137 (dk_at dksL_law_23 0 rfl rfl)
theorem dL_law_734 : decode cL_law 734 = .ok (.aload_n 1, 1) := dk_43 (dk_at dksL_law_23 3 rfl rfl)
theorem dL_law_735 : decode cL_law 735 = .ok (.aload_n 0, 1) := dk_42 (dk_at dksL_law_23 4 rfl rfl)
theorem dL_law_736 : decode cL_law 736 = .ok (.iload 5, 2) := dk_21 5 (dk_at dksL_law_23 5 rfl rfl)
theorem dL_law_738 : decode cL_law 738 = .ok (.iconst 1, 1) := dk_4 (dk_at dksL_law_23 7 rfl rfl)
theorem dL_law_739 : decode cL_law 739 = .ok (.iadd, 1) := dk_96 (dk_at dksL_law_23 8 rfl rfl)
theorem dL_law_740 : decode cL_law 740 = .ok (.iaload, 1) := dk_46 (dk_at dksL_law_23 9 rfl rfl)
theorem dL_law_741 : decode cL_law 741 = .ok (.aload_n 0, 1) := dk_42 (dk_at dksL_law_23 10 rfl rfl)
theorem dL_law_742 : decode cL_law 742 = .ok (.iload 5, 2) := dk_21 5 (dk_at dksL_law_23 11 rfl rfl)
theorem dL_law_744 : decode cL_law 744 = .ok (.iconst 2, 1) := dk_5 (dk_at dksL_law_23 13 rfl rfl)
theorem dL_law_745 : decode cL_law 745 = .ok (.iadd, 1) := dk_96 (dk_at dksL_law_23 14 rfl rfl)
theorem dL_law_746 : decode cL_law 746 = .ok (.iaload, 1) := dk_46 (dk_at dksL_law_23 15 rfl rfl)
theorem dL_law_747 : decode cL_law 747 = .ok (.aload_n 3, 1) := dk_45 (dk_at dksL_law_23 16 rfl rfl)
theorem dL_law_748 : decode cL_law 748 = .ok (.invokestatic 168, 3) := dk_184 0 168 (dk_at dksL_law_23 17 rfl rfl)
theorem dL_law_751 : decode cL_law 751 = .ok (.istore 6, 2) := dk_54 6 (dk_at dksL_law_23 20 rfl rfl)
theorem dL_law_753 : decode cL_law 753 = .ok (.aload_n 2, 1) := dk_44 (dk_at dksL_law_23 22 rfl rfl)
theorem dL_law_754 : decode cL_law 754 = .ok (.aload_n 0, 1) := dk_42 (dk_at dksL_law_23 23 rfl rfl)
theorem dL_law_755 : decode cL_law 755 = .ok (.iload 5, 2) := dk_21 5 (dk_at dksL_law_24 0 rfl rfl)
theorem dL_law_757 : decode cL_law 757 = .ok (.iconst 1, 1) := dk_4 (dk_at dksL_law_24 2 rfl rfl)
theorem dL_law_758 : decode cL_law 758 = .ok (.iadd, 1) := dk_96 (dk_at dksL_law_24 3 rfl rfl)
theorem dL_law_759 : decode cL_law 759 = .ok (.iaload, 1) := dk_46 (dk_at dksL_law_24 4 rfl rfl)
theorem dL_law_760 : decode cL_law 760 = .ok (.aload_n 0, 1) := dk_42 (dk_at dksL_law_24 5 rfl rfl)
theorem dL_law_761 : decode cL_law 761 = .ok (.iload 5, 2) := dk_21 5 (dk_at dksL_law_24 6 rfl rfl)
theorem dL_law_763 : decode cL_law 763 = .ok (.iconst 2, 1) := dk_5 (dk_at dksL_law_24 8 rfl rfl)
theorem dL_law_764 : decode cL_law 764 = .ok (.iadd, 1) := dk_96 (dk_at dksL_law_24 9 rfl rfl)
theorem dL_law_765 : decode cL_law 765 = .ok (.iaload, 1) := dk_46 (dk_at dksL_law_24 10 rfl rfl)
theorem dL_law_766 : decode cL_law 766 = .ok (.invokevirtual 170, 3) := dk_182 0 170 (dk_at dksL_law_24 11 rfl rfl)
theorem dL_law_769 : decode cL_law 769 = .ok (.istore 7, 2) := dk_54 7 (dk_at dksL_law_24 14 rfl rfl)
theorem dL_law_771 : decode cL_law 771 = .ok (.aload_n 2, 1) := dk_44 (dk_at dksL_law_24 16 rfl rfl)
theorem dL_law_772 : decode cL_law 772 = .ok (.invokevirtual 138, 3) := dk_182 0 138 (dk_at dksL_law_24 17 rfl rfl)
theorem dL_law_775 : decode cL_law 775 = .ok (.iload 6, 2) := dk_21 6 (dk_at dksL_law_24 20 rfl rfl)
theorem dL_law_777 : decode cL_law 777 = .ok (.if_icmp .eq 5, 3) := dk_159 0 5 (dk_at dksL_law_25 0 rfl rfl)
theorem dL_law_780 : decode cL_law 780 = .ok (.iconst 0, 1) := dk_3 (dk_at dksL_law_25 3 rfl rfl)
theorem dL_law_781 : decode cL_law 781 = .ok (.ireturn, 1) := dk_172 (dk_at dksL_law_25 4 rfl rfl)
theorem dL_law_782 : decode cL_law 782 = .ok (.iload 6, 2) := dk_21 6 (dk_at dksL_law_25 5 rfl rfl)
theorem dL_law_784 : decode cL_law 784 = .ok (.ifCond .ne 15, 3) := dk_154 0 15 (dk_at dksL_law_25 7 rfl rfl)
theorem dL_law_787 : decode cL_law 787 = .ok (.aload_n 3, 1) := dk_45 (dk_at dksL_law_25 10 rfl rfl)
theorem dL_law_788 : decode cL_law 788 = .ok (.iconst 0, 1) := dk_3 (dk_at dksL_law_25 11 rfl rfl)
theorem dL_law_789 : decode cL_law 789 = .ok (.laload, 1) := dk_47 (dk_at dksL_law_25 12 rfl rfl)
theorem dL_law_790 : decode cL_law 790 = .ok (.iload 7, 2) := dk_21 7 (dk_at dksL_law_25 13 rfl rfl)
theorem dL_law_792 : decode cL_law 792 = .ok (.i2l, 1) := dk_133 (dk_at dksL_law_25 15 rfl rfl)
theorem dL_law_793 : decode cL_law 793 = .ok (.lcmp, 1) := dk_148 (dk_at dksL_law_25 16 rfl rfl)
theorem dL_law_794 : decode cL_law 794 = .ok (.ifCond .eq 5, 3) := dk_153 0 5 (dk_at dksL_law_25 17 rfl rfl)
theorem dL_law_797 : decode cL_law 797 = .ok (.iconst 0, 1) := dk_3 (dk_at dksL_law_25 20 rfl rfl)
theorem dL_law_798 : decode cL_law 798 = .ok (.ireturn, 1) := dk_172 (dk_at dksL_law_25 21 rfl rfl)
theorem dL_law_799 : decode cL_law 799 = .ok (.goto 1605, 3) := dk_167 6 69 (dk_at dksL_law_26 0 rfl rfl)
theorem dL_law_802 : decode cL_law 802 = .ok (.aload_n 1, 1) := dk_43 (dk_at dksL_law_26 3 rfl rfl)
theorem dL_law_803 : decode cL_law 803 = .ok (.aload_n 0, 1) := dk_42 (dk_at dksL_law_26 4 rfl rfl)
theorem dL_law_804 : decode cL_law 804 = .ok (.iload 5, 2) := dk_21 5 (dk_at dksL_law_26 5 rfl rfl)
theorem dL_law_806 : decode cL_law 806 = .ok (.iconst 1, 1) := dk_4 (dk_at dksL_law_26 7 rfl rfl)
theorem dL_law_807 : decode cL_law 807 = .ok (.iadd, 1) := dk_96 (dk_at dksL_law_26 8 rfl rfl)
theorem dL_law_808 : decode cL_law 808 = .ok (.iaload, 1) := dk_46 (dk_at dksL_law_26 9 rfl rfl)
theorem dL_law_809 : decode cL_law 809 = .ok (.aload_n 3, 1) := dk_45 (dk_at dksL_law_26 10 rfl rfl)
theorem dL_law_810 : decode cL_law 810 = .ok (.invokestatic 171, 3) := dk_184 0 171 (dk_at dksL_law_26 11 rfl rfl)
theorem dL_law_813 : decode cL_law 813 = .ok (.istore 6, 2) := dk_54 6 (dk_at dksL_law_26 14 rfl rfl)
theorem dL_law_815 : decode cL_law 815 = .ok (.aload_n 2, 1) := dk_44 (dk_at dksL_law_26 16 rfl rfl)
theorem dL_law_816 : decode cL_law 816 = .ok (.aload_n 0, 1) := dk_42 (dk_at dksL_law_26 17 rfl rfl)
theorem dL_law_817 : decode cL_law 817 = .ok (.iload 5, 2) := dk_21 5 (dk_at dksL_law_26 18 rfl rfl)
theorem dL_law_819 : decode cL_law 819 = .ok (.iconst 1, 1) := dk_4 (dk_at dksL_law_26 20 rfl rfl)
theorem dL_law_820 : decode cL_law 820 = .ok (.iadd, 1) := dk_96 (dk_at dksL_law_26 21 rfl rfl)
theorem dL_law_821 : decode cL_law 821 = .ok (.iaload, 1) := dk_46 (dk_at dksL_law_26 22 rfl rfl)
theorem dL_law_822 : decode cL_law 822 = .ok (.invokevirtual 173, 3) := dk_182 0 173 (dk_at dksL_law_27 0 rfl rfl)
theorem dL_law_825 : decode cL_law 825 = .ok (.istore 7, 2) := dk_54 7 (dk_at dksL_law_27 3 rfl rfl)
theorem dL_law_827 : decode cL_law 827 = .ok (.aload_n 2, 1) := dk_44 (dk_at dksL_law_27 5 rfl rfl)
theorem dL_law_828 : decode cL_law 828 = .ok (.invokevirtual 138, 3) := dk_182 0 138 (dk_at dksL_law_27 6 rfl rfl)
theorem dL_law_831 : decode cL_law 831 = .ok (.iload 6, 2) := dk_21 6 (dk_at dksL_law_27 9 rfl rfl)
theorem dL_law_833 : decode cL_law 833 = .ok (.if_icmp .eq 5, 3) := dk_159 0 5 (dk_at dksL_law_27 11 rfl rfl)
theorem dL_law_836 : decode cL_law 836 = .ok (.iconst 0, 1) := dk_3 (dk_at dksL_law_27 14 rfl rfl)
theorem dL_law_837 : decode cL_law 837 = .ok (.ireturn, 1) := dk_172 (dk_at dksL_law_27 15 rfl rfl)
theorem dL_law_838 : decode cL_law 838 = .ok (.iload 6, 2) := dk_21 6 (dk_at dksL_law_27 16 rfl rfl)
theorem dL_law_840 : decode cL_law 840 = .ok (.ifCond .ne 15, 3) := dk_154 0 15 (dk_at dksL_law_27 18 rfl rfl)
theorem dL_law_843 : decode cL_law 843 = .ok (.aload_n 3, 1) := dk_45 (dk_at dksL_law_27 21 rfl rfl)
theorem dL_law_844 : decode cL_law 844 = .ok (.iconst 0, 1) := dk_3 (dk_at dksL_law_27 22 rfl rfl)
theorem dL_law_845 : decode cL_law 845 = .ok (.laload, 1) := dk_47 (dk_at dksL_law_27 23 rfl rfl)
theorem dL_law_846 : decode cL_law 846 = .ok (.iload 7, 2) := dk_21 7 (dk_at dksL_law_28 0 rfl rfl)
theorem dL_law_848 : decode cL_law 848 = .ok (.i2l, 1) := dk_133 (dk_at dksL_law_28 2 rfl rfl)
theorem dL_law_849 : decode cL_law 849 = .ok (.lcmp, 1) := dk_148 (dk_at dksL_law_28 3 rfl rfl)
theorem dL_law_850 : decode cL_law 850 = .ok (.ifCond .eq 5, 3) := dk_153 0 5 (dk_at dksL_law_28 4 rfl rfl)
theorem dL_law_853 : decode cL_law 853 = .ok (.iconst 0, 1) := dk_3 (dk_at dksL_law_28 7 rfl rfl)
theorem dL_law_854 : decode cL_law 854 = .ok (.ireturn, 1) := dk_172 (dk_at dksL_law_28 8 rfl rfl)
theorem dL_law_855 : decode cL_law 855 = .ok (.goto 1549, 3) := dk_167 6 13 (dk_at dksL_law_28 9 rfl rfl)
theorem dL_law_858 : decode cL_law 858 = .ok (.aload_n 1, 1) := dk_43 (dk_at dksL_law_28 12 rfl rfl)
theorem dL_law_859 : decode cL_law 859 = .ok (.aload_n 0, 1) := dk_42 (dk_at dksL_law_28 13 rfl rfl)
theorem dL_law_860 : decode cL_law 860 = .ok (.iload 5, 2) := dk_21 5 (dk_at dksL_law_28 14 rfl rfl)
theorem dL_law_862 : decode cL_law 862 = .ok (.iconst 1, 1) := dk_4 (dk_at dksL_law_28 16 rfl rfl)
theorem dL_law_863 : decode cL_law 863 = .ok (.iadd, 1) := dk_96 (dk_at dksL_law_28 17 rfl rfl)
theorem dL_law_864 : decode cL_law 864 = .ok (.iaload, 1) := dk_46 (dk_at dksL_law_28 18 rfl rfl)
theorem dL_law_865 : decode cL_law 865 = .ok (.aload_n 3, 1) := dk_45 (dk_at dksL_law_28 19 rfl rfl)
theorem dL_law_866 : decode cL_law 866 = .ok (.invokestatic 174, 3) := dk_184 0 174 (dk_at dksL_law_28 20 rfl rfl)
theorem dL_law_869 : decode cL_law 869 = .ok (.istore 6, 2) := dk_54 6 (dk_at dksL_law_29 0 rfl rfl)
theorem dL_law_871 : decode cL_law 871 = .ok (.aload_n 2, 1) := dk_44 (dk_at dksL_law_29 2 rfl rfl)
theorem dL_law_872 : decode cL_law 872 = .ok (.aload_n 0, 1) := dk_42 (dk_at dksL_law_29 3 rfl rfl)
theorem dL_law_873 : decode cL_law 873 = .ok (.iload 5, 2) := dk_21 5 (dk_at dksL_law_29 4 rfl rfl)
theorem dL_law_875 : decode cL_law 875 = .ok (.iconst 1, 1) := dk_4 (dk_at dksL_law_29 6 rfl rfl)
theorem dL_law_876 : decode cL_law 876 = .ok (.iadd, 1) := dk_96 (dk_at dksL_law_29 7 rfl rfl)
theorem dL_law_877 : decode cL_law 877 = .ok (.iaload, 1) := dk_46 (dk_at dksL_law_29 8 rfl rfl)
theorem dL_law_878 : decode cL_law 878 = .ok (.invokevirtual 176, 3) := dk_182 0 176 (dk_at dksL_law_29 9 rfl rfl)
theorem dL_law_881 : decode cL_law 881 = .ok (.istore 7, 2) := dk_54 7 (dk_at dksL_law_29 12 rfl rfl)
theorem dL_law_883 : decode cL_law 883 = .ok (.aload_n 2, 1) := dk_44 (dk_at dksL_law_29 14 rfl rfl)
theorem dL_law_884 : decode cL_law 884 = .ok (.invokevirtual 138, 3) := dk_182 0 138 (dk_at dksL_law_29 15 rfl rfl)
theorem dL_law_887 : decode cL_law 887 = .ok (.iload 6, 2) := dk_21 6 (dk_at dksL_law_29 18 rfl rfl)
theorem dL_law_889 : decode cL_law 889 = .ok (.if_icmp .eq 5, 3) := dk_159 0 5 (dk_at dksL_law_29 20 rfl rfl)
theorem dL_law_892 : decode cL_law 892 = .ok (.iconst 0, 1) := dk_3 (dk_at dksL_law_29 23 rfl rfl)
theorem dL_law_893 : decode cL_law 893 = .ok (.ireturn, 1) := dk_172 (dk_at dksL_law_30 0 rfl rfl)
theorem dL_law_894 : decode cL_law 894 = .ok (.iload 6, 2) := dk_21 6 (dk_at dksL_law_30 1 rfl rfl)
theorem dL_law_896 : decode cL_law 896 = .ok (.ifCond .ne 15, 3) := dk_154 0 15 (dk_at dksL_law_30 3 rfl rfl)
theorem dL_law_899 : decode cL_law 899 = .ok (.aload_n 3, 1) := dk_45 (dk_at dksL_law_30 6 rfl rfl)
theorem dL_law_900 : decode cL_law 900 = .ok (.iconst 0, 1) := dk_3 (dk_at dksL_law_30 7 rfl rfl)
theorem dL_law_901 : decode cL_law 901 = .ok (.laload, 1) := dk_47 (dk_at dksL_law_30 8 rfl rfl)
theorem dL_law_902 : decode cL_law 902 = .ok (.iload 7, 2) := dk_21 7 (dk_at dksL_law_30 9 rfl rfl)
theorem dL_law_904 : decode cL_law 904 = .ok (.i2l, 1) := dk_133 (dk_at dksL_law_30 11 rfl rfl)
theorem dL_law_905 : decode cL_law 905 = .ok (.lcmp, 1) := dk_148 (dk_at dksL_law_30 12 rfl rfl)
theorem dL_law_906 : decode cL_law 906 = .ok (.ifCond .eq 5, 3) := dk_153 0 5 (dk_at dksL_law_30 13 rfl rfl)
theorem dL_law_909 : decode cL_law 909 = .ok (.iconst 0, 1) := dk_3 (dk_at dksL_law_30 16 rfl rfl)
theorem dL_law_910 : decode cL_law 910 = .ok (.ireturn, 1) := dk_172 (dk_at dksL_law_30 17 rfl rfl)
theorem dL_law_911 : decode cL_law 911 = .ok (.goto 1493, 3) := dk_167 5 213 (dk_at dksL_law_30 18 rfl rfl)
theorem dL_law_914 : decode cL_law 914 = .ok (.aload_n 1, 1) := dk_43 (dk_at dksL_law_30 21 rfl rfl)
theorem dL_law_915 : decode cL_law 915 = .ok (.invokevirtual 177, 3) := dk_182 0 177 (dk_at dksL_law_31 0 rfl rfl)
theorem dL_law_918 : decode cL_law 918 = .ok (.aload_n 2, 1) := dk_44 (dk_at dksL_law_31 3 rfl rfl)
theorem dL_law_919 : decode cL_law 919 = .ok (.invokevirtual 180, 3) := dk_182 0 180 (dk_at dksL_law_31 4 rfl rfl)
theorem dL_law_922 : decode cL_law 922 = .ok (.if_icmp .eq 1482, 3) := dk_159 5 202 (dk_at dksL_law_31 7 rfl rfl)
theorem dL_law_925 : decode cL_law 925 = .ok (.iconst 0, 1) := dk_3 (dk_at dksL_law_31 10 rfl rfl)
theorem dL_law_926 : decode cL_law 926 = .ok (.ireturn, 1) := dk_172 (dk_at dksL_law_31 11 rfl rfl)
theorem dL_law_927 : decode cL_law 927 = .ok (.aload_n 1, 1) := dk_43 (dk_at dksL_law_31 12 rfl rfl)
theorem dL_law_928 : decode cL_law 928 = .ok (.invokevirtual 181, 3) := dk_182 0 181 (dk_at dksL_law_31 13 rfl rfl)
theorem dL_law_931 : decode cL_law 931 = .ok (.aload_n 2, 1) := dk_44 (dk_at dksL_law_31 16 rfl rfl)
theorem dL_law_932 : decode cL_law 932 = .ok (.invokevirtual 184, 3) := dk_182 0 184 (dk_at dksL_law_31 17 rfl rfl)
theorem dL_law_935 : decode cL_law 935 = .ok (.if_icmp .eq 1469, 3) := dk_159 5 189 (dk_at dksL_law_31 20 rfl rfl)
theorem dL_law_938 : decode cL_law 938 = .ok (.iconst 0, 1) := dk_3 (dk_at dksL_law_31 23 rfl rfl)
theorem dL_law_939 : decode cL_law 939 = .ok (.ireturn, 1) := dk_172 (dk_at dksL_law_32 0 rfl rfl)
theorem dL_law_940 : decode cL_law 940 = .ok (.aload_n 1, 1) := dk_43 (dk_at dksL_law_32 1 rfl rfl)
theorem dL_law_941 : decode cL_law 941 = .ok (.aload_n 0, 1) := dk_42 (dk_at dksL_law_32 2 rfl rfl)
theorem dL_law_942 : decode cL_law 942 = .ok (.iload 5, 2) := dk_21 5 (dk_at dksL_law_32 3 rfl rfl)
theorem dL_law_944 : decode cL_law 944 = .ok (.iconst 1, 1) := dk_4 (dk_at dksL_law_32 5 rfl rfl)
theorem dL_law_945 : decode cL_law 945 = .ok (.iadd, 1) := dk_96 (dk_at dksL_law_32 6 rfl rfl)
theorem dL_law_946 : decode cL_law 946 = .ok (.iaload, 1) := dk_46 (dk_at dksL_law_32 7 rfl rfl)
theorem dL_law_947 : decode cL_law 947 = .ok (.aload_n 3, 1) := dk_45 (dk_at dksL_law_32 8 rfl rfl)
theorem dL_law_948 : decode cL_law 948 = .ok (.invokestatic 185, 3) := dk_184 0 185 (dk_at dksL_law_32 9 rfl rfl)
theorem dL_law_951 : decode cL_law 951 = .ok (.istore 6, 2) := dk_54 6 (dk_at dksL_law_32 12 rfl rfl)
theorem dL_law_953 : decode cL_law 953 = .ok (.aload_n 2, 1) := dk_44 (dk_at dksL_law_32 14 rfl rfl)
theorem dL_law_954 : decode cL_law 954 = .ok (.aload_n 0, 1) := dk_42 (dk_at dksL_law_32 15 rfl rfl)
theorem dL_law_955 : decode cL_law 955 = .ok (.iload 5, 2) := dk_21 5 (dk_at dksL_law_32 16 rfl rfl)
theorem dL_law_957 : decode cL_law 957 = .ok (.iconst 1, 1) := dk_4 (dk_at dksL_law_32 18 rfl rfl)
theorem dL_law_958 : decode cL_law 958 = .ok (.iadd, 1) := dk_96 (dk_at dksL_law_32 19 rfl rfl)
theorem dL_law_959 : decode cL_law 959 = .ok (.iaload, 1) := dk_46 (dk_at dksL_law_32 20 rfl rfl)
theorem dL_law_960 : decode cL_law 960 = .ok (.invokevirtual 187, 3) := dk_182 0 187 (dk_at dksL_law_32 21 rfl rfl)
theorem dL_law_963 : decode cL_law 963 = .ok (.istore 7, 2) := dk_54 7 (dk_at dksL_law_33 0 rfl rfl)
theorem dL_law_965 : decode cL_law 965 = .ok (.aload_n 2, 1) := dk_44 (dk_at dksL_law_33 2 rfl rfl)
theorem dL_law_966 : decode cL_law 966 = .ok (.invokevirtual 138, 3) := dk_182 0 138 (dk_at dksL_law_33 3 rfl rfl)
theorem dL_law_969 : decode cL_law 969 = .ok (.iload 6, 2) := dk_21 6 (dk_at dksL_law_33 6 rfl rfl)
theorem dL_law_971 : decode cL_law 971 = .ok (.if_icmp .eq 5, 3) := dk_159 0 5 (dk_at dksL_law_33 8 rfl rfl)
theorem dL_law_974 : decode cL_law 974 = .ok (.iconst 0, 1) := dk_3 (dk_at dksL_law_33 11 rfl rfl)
theorem dL_law_975 : decode cL_law 975 = .ok (.ireturn, 1) := dk_172 (dk_at dksL_law_33 12 rfl rfl)
theorem dL_law_976 : decode cL_law 976 = .ok (.iload 6, 2) := dk_21 6 (dk_at dksL_law_33 13 rfl rfl)
theorem dL_law_978 : decode cL_law 978 = .ok (.ifCond .ne 15, 3) := dk_154 0 15 (dk_at dksL_law_33 15 rfl rfl)
theorem dL_law_981 : decode cL_law 981 = .ok (.aload_n 3, 1) := dk_45 (dk_at dksL_law_33 18 rfl rfl)
theorem dL_law_982 : decode cL_law 982 = .ok (.iconst 0, 1) := dk_3 (dk_at dksL_law_33 19 rfl rfl)
theorem dL_law_983 : decode cL_law 983 = .ok (.laload, 1) := dk_47 (dk_at dksL_law_33 20 rfl rfl)
theorem dL_law_984 : decode cL_law 984 = .ok (.iload 7, 2) := dk_21 7 (dk_at dksL_law_33 21 rfl rfl)
theorem dL_law_986 : decode cL_law 986 = .ok (.i2l, 1) := dk_133 (dk_at dksL_law_33 23 rfl rfl)
theorem dL_law_987 : decode cL_law 987 = .ok (.lcmp, 1) := dk_148 (dk_at dksL_law_34 0 rfl rfl)
theorem dL_law_988 : decode cL_law 988 = .ok (.ifCond .eq 5, 3) := dk_153 0 5 (dk_at dksL_law_34 1 rfl rfl)
theorem dL_law_991 : decode cL_law 991 = .ok (.iconst 0, 1) := dk_3 (dk_at dksL_law_34 4 rfl rfl)
theorem dL_law_992 : decode cL_law 992 = .ok (.ireturn, 1) := dk_172 (dk_at dksL_law_34 5 rfl rfl)
theorem dL_law_993 : decode cL_law 993 = .ok (.goto 1411, 3) := dk_167 5 131 (dk_at dksL_law_34 6 rfl rfl)
theorem dL_law_996 : decode cL_law 996 = .ok (.aload_n 1, 1) := dk_43 (dk_at dksL_law_34 9 rfl rfl)
theorem dL_law_997 : decode cL_law 997 = .ok (.aload_n 0, 1) := dk_42 (dk_at dksL_law_34 10 rfl rfl)
theorem dL_law_998 : decode cL_law 998 = .ok (.iload 5, 2) := dk_21 5 (dk_at dksL_law_34 11 rfl rfl)
theorem dL_law_1000 : decode cL_law 1000 = .ok (.iconst 1, 1) := dk_4 (dk_at dksL_law_34 13 rfl rfl)
theorem dL_law_1001 : decode cL_law 1001 = .ok (.iadd, 1) := dk_96 (dk_at dksL_law_34 14 rfl rfl)
theorem dL_law_1002 : decode cL_law 1002 = .ok (.iaload, 1) := dk_46 (dk_at dksL_law_34 15 rfl rfl)
theorem dL_law_1003 : decode cL_law 1003 = .ok (.aload_n 3, 1) := dk_45 (dk_at dksL_law_34 16 rfl rfl)
theorem dL_law_1004 : decode cL_law 1004 = .ok (.invokestatic 188, 3) := dk_184 0 188 (dk_at dksL_law_34 17 rfl rfl)
theorem dL_law_1007 : decode cL_law 1007 = .ok (.istore 6, 2) := dk_54 6 (dk_at dksL_law_34 20 rfl rfl)
theorem dL_law_1009 : decode cL_law 1009 = .ok (.aload_n 2, 1) := dk_44 (dk_at dksL_law_34 22 rfl rfl)
theorem dL_law_1010 : decode cL_law 1010 = .ok (.aload_n 0, 1) := dk_42 (dk_at dksL_law_34 23 rfl rfl)
theorem dL_law_1011 : decode cL_law 1011 = .ok (.iload 5, 2) := dk_21 5 (dk_at dksL_law_35 0 rfl rfl)
theorem dL_law_1013 : decode cL_law 1013 = .ok (.iconst 1, 1) := dk_4 (dk_at dksL_law_35 2 rfl rfl)
theorem dL_law_1014 : decode cL_law 1014 = .ok (.iadd, 1) := dk_96 (dk_at dksL_law_35 3 rfl rfl)
theorem dL_law_1015 : decode cL_law 1015 = .ok (.iaload, 1) := dk_46 (dk_at dksL_law_35 4 rfl rfl)
theorem dL_law_1016 : decode cL_law 1016 = .ok (.invokevirtual 190, 3) := dk_182 0 190 (dk_at dksL_law_35 5 rfl rfl)
theorem dL_law_1019 : decode cL_law 1019 = .ok (.istore 7, 2) := dk_54 7 (dk_at dksL_law_35 8 rfl rfl)
theorem dL_law_1021 : decode cL_law 1021 = .ok (.aload_n 2, 1) := dk_44 (dk_at dksL_law_35 10 rfl rfl)
theorem dL_law_1022 : decode cL_law 1022 = .ok (.invokevirtual 138, 3) := dk_182 0 138 (dk_at dksL_law_35 11 rfl rfl)
theorem dL_law_1025 : decode cL_law 1025 = .ok (.iload 6, 2) := dk_21 6 (dk_at dksL_law_35 14 rfl rfl)
theorem dL_law_1027 : decode cL_law 1027 = .ok (.if_icmp .eq 5, 3) := dk_159 0 5 (dk_at dksL_law_35 16 rfl rfl)
theorem dL_law_1030 : decode cL_law 1030 = .ok (.iconst 0, 1) := dk_3 (dk_at dksL_law_35 19 rfl rfl)
theorem dL_law_1031 : decode cL_law 1031 = .ok (.ireturn, 1) := dk_172 (dk_at dksL_law_35 20 rfl rfl)
theorem dL_law_1032 : decode cL_law 1032 = .ok (.iload 6, 2) := dk_21 6 (dk_at dksL_law_35 21 rfl rfl)
theorem dL_law_1034 : decode cL_law 1034 = .ok (.ifCond .ne 15, 3) := dk_154 0 15 (dk_at dksL_law_36 0 rfl rfl)
theorem dL_law_1037 : decode cL_law 1037 = .ok (.aload_n 3, 1) := dk_45 (dk_at dksL_law_36 3 rfl rfl)
theorem dL_law_1038 : decode cL_law 1038 = .ok (.iconst 0, 1) := dk_3 (dk_at dksL_law_36 4 rfl rfl)
theorem dL_law_1039 : decode cL_law 1039 = .ok (.laload, 1) := dk_47 (dk_at dksL_law_36 5 rfl rfl)
theorem dL_law_1040 : decode cL_law 1040 = .ok (.iload 7, 2) := dk_21 7 (dk_at dksL_law_36 6 rfl rfl)
theorem dL_law_1042 : decode cL_law 1042 = .ok (.i2l, 1) := dk_133 (dk_at dksL_law_36 8 rfl rfl)
theorem dL_law_1043 : decode cL_law 1043 = .ok (.lcmp, 1) := dk_148 (dk_at dksL_law_36 9 rfl rfl)
theorem dL_law_1044 : decode cL_law 1044 = .ok (.ifCond .eq 5, 3) := dk_153 0 5 (dk_at dksL_law_36 10 rfl rfl)
theorem dL_law_1047 : decode cL_law 1047 = .ok (.iconst 0, 1) := dk_3 (dk_at dksL_law_36 13 rfl rfl)
theorem dL_law_1048 : decode cL_law 1048 = .ok (.ireturn, 1) := dk_172 (dk_at dksL_law_36 14 rfl rfl)
theorem dL_law_1049 : decode cL_law 1049 = .ok (.goto 1355, 3) := dk_167 5 75 (dk_at dksL_law_36 15 rfl rfl)
theorem dL_law_1052 : decode cL_law 1052 = .ok (.aload_n 1, 1) := dk_43 (dk_at dksL_law_36 18 rfl rfl)
theorem dL_law_1053 : decode cL_law 1053 = .ok (.aload_n 0, 1) := dk_42 (dk_at dksL_law_36 19 rfl rfl)
theorem dL_law_1054 : decode cL_law 1054 = .ok (.iload 5, 2) := dk_21 5 (dk_at dksL_law_36 20 rfl rfl)
theorem dL_law_1056 : decode cL_law 1056 = .ok (.iconst 1, 1) := dk_4 (dk_at dksL_law_36 22 rfl rfl)
theorem dL_law_1057 : decode cL_law 1057 = .ok (.iadd, 1) := dk_96 (dk_at dksL_law_36 23 rfl rfl)
theorem dL_law_1058 : decode cL_law 1058 = .ok (.iaload, 1) := dk_46 (dk_at dksL_law_37 0 rfl rfl)
theorem dL_law_1059 : decode cL_law 1059 = .ok (.aload_n 3, 1) := dk_45 (dk_at dksL_law_37 1 rfl rfl)
theorem dL_law_1060 : decode cL_law 1060 = .ok (.invokestatic 191, 3) := dk_184 0 191 (dk_at dksL_law_37 2 rfl rfl)
theorem dL_law_1063 : decode cL_law 1063 = .ok (.istore 6, 2) := dk_54 6 (dk_at dksL_law_37 5 rfl rfl)
theorem dL_law_1065 : decode cL_law 1065 = .ok (.aload_n 2, 1) := dk_44 (dk_at dksL_law_37 7 rfl rfl)
theorem dL_law_1066 : decode cL_law 1066 = .ok (.aload_n 0, 1) := dk_42 (dk_at dksL_law_37 8 rfl rfl)
theorem dL_law_1067 : decode cL_law 1067 = .ok (.iload 5, 2) := dk_21 5 (dk_at dksL_law_37 9 rfl rfl)
theorem dL_law_1069 : decode cL_law 1069 = .ok (.iconst 1, 1) := dk_4 (dk_at dksL_law_37 11 rfl rfl)
theorem dL_law_1070 : decode cL_law 1070 = .ok (.iadd, 1) := dk_96 (dk_at dksL_law_37 12 rfl rfl)
theorem dL_law_1071 : decode cL_law 1071 = .ok (.iaload, 1) := dk_46 (dk_at dksL_law_37 13 rfl rfl)
theorem dL_law_1072 : decode cL_law 1072 = .ok (.invokevirtual 193, 3) := dk_182 0 193 (dk_at dksL_law_37 14 rfl rfl)
theorem dL_law_1075 : decode cL_law 1075 = .ok (.istore 7, 2) := dk_54 7 (dk_at dksL_law_37 17 rfl rfl)
theorem dL_law_1077 : decode cL_law 1077 = .ok (.aload_n 2, 1) := dk_44 (dk_at dksL_law_37 19 rfl rfl)
theorem dL_law_1078 : decode cL_law 1078 = .ok (.invokevirtual 138, 3) := dk_182 0 138 (dk_at dksL_law_37 20 rfl rfl)
theorem dL_law_1081 : decode cL_law 1081 = .ok (.iload 6, 2) := dk_21 6 (dk_at dksL_law_38 0 rfl rfl)
theorem dL_law_1083 : decode cL_law 1083 = .ok (.if_icmp .eq 5, 3) := dk_159 0 5 (dk_at dksL_law_38 2 rfl rfl)
theorem dL_law_1086 : decode cL_law 1086 = .ok (.iconst 0, 1) := dk_3 (dk_at dksL_law_38 5 rfl rfl)
theorem dL_law_1087 : decode cL_law 1087 = .ok (.ireturn, 1) := dk_172 (dk_at dksL_law_38 6 rfl rfl)
theorem dL_law_1088 : decode cL_law 1088 = .ok (.iload 6, 2) := dk_21 6 (dk_at dksL_law_38 7 rfl rfl)
theorem dL_law_1090 : decode cL_law 1090 = .ok (.ifCond .ne 15, 3) := dk_154 0 15 (dk_at dksL_law_38 9 rfl rfl)
theorem dL_law_1093 : decode cL_law 1093 = .ok (.aload_n 3, 1) := dk_45 (dk_at dksL_law_38 12 rfl rfl)
theorem dL_law_1094 : decode cL_law 1094 = .ok (.iconst 0, 1) := dk_3 (dk_at dksL_law_38 13 rfl rfl)
theorem dL_law_1095 : decode cL_law 1095 = .ok (.laload, 1) := dk_47 (dk_at dksL_law_38 14 rfl rfl)
theorem dL_law_1096 : decode cL_law 1096 = .ok (.iload 7, 2) := dk_21 7 (dk_at dksL_law_38 15 rfl rfl)
theorem dL_law_1098 : decode cL_law 1098 = .ok (.i2l, 1) := dk_133 (dk_at dksL_law_38 17 rfl rfl)
theorem dL_law_1099 : decode cL_law 1099 = .ok (.lcmp, 1) := dk_148 (dk_at dksL_law_38 18 rfl rfl)
theorem dL_law_1100 : decode cL_law 1100 = .ok (.ifCond .eq 5, 3) := dk_153 0 5 (dk_at dksL_law_38 19 rfl rfl)
theorem dL_law_1103 : decode cL_law 1103 = .ok (.iconst 0, 1) := dk_3 (dk_at dksL_law_38 22 rfl rfl)
theorem dL_law_1104 : decode cL_law 1104 = .ok (.ireturn, 1) := dk_172 (dk_at dksL_law_38 23 rfl rfl)
theorem dL_law_1105 : decode cL_law 1105 = .ok (.goto 1299, 3) := dk_167 5 19 (dk_at dksL_law_39 0 rfl rfl)
theorem dL_law_1108 : decode cL_law 1108 = .ok (.aload_n 1, 1) := dk_43 (dk_at dksL_law_39 3 rfl rfl)
theorem dL_law_1109 : decode cL_law 1109 = .ok (.aload_n 0, 1) := dk_42 (dk_at dksL_law_39 4 rfl rfl)
theorem dL_law_1110 : decode cL_law 1110 = .ok (.iload 5, 2) := dk_21 5 (dk_at dksL_law_39 5 rfl rfl)
theorem dL_law_1112 : decode cL_law 1112 = .ok (.iconst 1, 1) := dk_4 (dk_at dksL_law_39 7 rfl rfl)
theorem dL_law_1113 : decode cL_law 1113 = .ok (.iadd, 1) := dk_96 (dk_at dksL_law_39 8 rfl rfl)
theorem dL_law_1114 : decode cL_law 1114 = .ok (.iaload, 1) := dk_46 (dk_at dksL_law_39 9 rfl rfl)
theorem dL_law_1115 : decode cL_law 1115 = .ok (.aload_n 3, 1) := dk_45 (dk_at dksL_law_39 10 rfl rfl)
theorem dL_law_1116 : decode cL_law 1116 = .ok (.invokestatic 194, 3) := dk_184 0 194 (dk_at dksL_law_39 11 rfl rfl)
theorem dL_law_1119 : decode cL_law 1119 = .ok (.istore 6, 2) := dk_54 6 (dk_at dksL_law_39 14 rfl rfl)
theorem dL_law_1121 : decode cL_law 1121 = .ok (.aload_n 2, 1) := dk_44 (dk_at dksL_law_39 16 rfl rfl)
theorem dL_law_1122 : decode cL_law 1122 = .ok (.aload_n 0, 1) := dk_42 (dk_at dksL_law_39 17 rfl rfl)
theorem dL_law_1123 : decode cL_law 1123 = .ok (.iload 5, 2) := dk_21 5 (dk_at dksL_law_39 18 rfl rfl)
theorem dL_law_1125 : decode cL_law 1125 = .ok (.iconst 1, 1) := dk_4 (dk_at dksL_law_39 20 rfl rfl)
theorem dL_law_1126 : decode cL_law 1126 = .ok (.iadd, 1) := dk_96 (dk_at dksL_law_39 21 rfl rfl)
theorem dL_law_1127 : decode cL_law 1127 = .ok (.iaload, 1) := dk_46 (dk_at dksL_law_39 22 rfl rfl)
theorem dL_law_1128 : decode cL_law 1128 = .ok (.invokevirtual 196, 3) := dk_182 0 196 (dk_at dksL_law_40 0 rfl rfl)
theorem dL_law_1131 : decode cL_law 1131 = .ok (.istore 7, 2) := dk_54 7 (dk_at dksL_law_40 3 rfl rfl)
theorem dL_law_1133 : decode cL_law 1133 = .ok (.aload_n 2, 1) := dk_44 (dk_at dksL_law_40 5 rfl rfl)
theorem dL_law_1134 : decode cL_law 1134 = .ok (.invokevirtual 138, 3) := dk_182 0 138 (dk_at dksL_law_40 6 rfl rfl)
theorem dL_law_1137 : decode cL_law 1137 = .ok (.iload 6, 2) := dk_21 6 (dk_at dksL_law_40 9 rfl rfl)
theorem dL_law_1139 : decode cL_law 1139 = .ok (.if_icmp .eq 5, 3) := dk_159 0 5 (dk_at dksL_law_40 11 rfl rfl)
theorem dL_law_1142 : decode cL_law 1142 = .ok (.iconst 0, 1) := dk_3 (dk_at dksL_law_40 14 rfl rfl)
theorem dL_law_1143 : decode cL_law 1143 = .ok (.ireturn, 1) := dk_172 (dk_at dksL_law_40 15 rfl rfl)
theorem dL_law_1144 : decode cL_law 1144 = .ok (.iload 6, 2) := dk_21 6 (dk_at dksL_law_40 16 rfl rfl)
theorem dL_law_1146 : decode cL_law 1146 = .ok (.ifCond .ne 22, 3) := dk_154 0 22 (dk_at dksL_law_40 18 rfl rfl)
theorem dL_law_1149 : decode cL_law 1149 = .ok (.aload_n 3, 1) := dk_45 (dk_at dksL_law_40 21 rfl rfl)
theorem dL_law_1150 : decode cL_law 1150 = .ok (.iconst 0, 1) := dk_3 (dk_at dksL_law_40 22 rfl rfl)
theorem dL_law_1151 : decode cL_law 1151 = .ok (.laload, 1) := dk_47 (dk_at dksL_law_40 23 rfl rfl)
theorem dL_law_1152 : decode cL_law 1152 = .ok (.iload 7, 2) := dk_21 7 (dk_at dksL_law_41 0 rfl rfl)
theorem dL_law_1154 : decode cL_law 1154 = .ok (.ifCond .eq 7, 3) := dk_153 0 7 (dk_at dksL_law_41 2 rfl rfl)
theorem dL_law_1157 : decode cL_law 1157 = .ok (.lconst 1, 1) := dk_10 (dk_at dksL_law_41 5 rfl rfl)
theorem dL_law_1158 : decode cL_law 1158 = .ok (.goto 4, 3) := dk_167 0 4 (dk_at dksL_law_41 6 rfl rfl)
theorem dL_law_1161 : decode cL_law 1161 = .ok (.lconst 0, 1) := dk_9 (dk_at dksL_law_41 9 rfl rfl)
theorem dL_law_1162 : decode cL_law 1162 = .ok (.lcmp, 1) := dk_148 (dk_at dksL_law_41 10 rfl rfl)
theorem dL_law_1163 : decode cL_law 1163 = .ok (.ifCond .eq 5, 3) := dk_153 0 5 (dk_at dksL_law_41 11 rfl rfl)
theorem dL_law_1166 : decode cL_law 1166 = .ok (.iconst 0, 1) := dk_3 (dk_at dksL_law_41 14 rfl rfl)
theorem dL_law_1167 : decode cL_law 1167 = .ok (.ireturn, 1) := dk_172 (dk_at dksL_law_41 15 rfl rfl)
theorem dL_law_1168 : decode cL_law 1168 = .ok (.goto 1236, 3) := dk_167 4 212 (dk_at dksL_law_41 16 rfl rfl)
theorem dL_law_1171 : decode cL_law 1171 = .ok (.aload_n 1, 1) := dk_43 (dk_at dksL_law_41 19 rfl rfl)
theorem dL_law_1172 : decode cL_law 1172 = .ok (.aload_n 0, 1) := dk_42 (dk_at dksL_law_41 20 rfl rfl)
theorem dL_law_1173 : decode cL_law 1173 = .ok (.iload 5, 2) := dk_21 5 (dk_at dksL_law_41 21 rfl rfl)
theorem dL_law_1175 : decode cL_law 1175 = .ok (.iconst 1, 1) := dk_4 (dk_at dksL_law_41 23 rfl rfl)
theorem dL_law_1176 : decode cL_law 1176 = .ok (.iadd, 1) := dk_96 (dk_at dksL_law_42 0 rfl rfl)
theorem dL_law_1177 : decode cL_law 1177 = .ok (.iaload, 1) := dk_46 (dk_at dksL_law_42 1 rfl rfl)
theorem dL_law_1178 : decode cL_law 1178 = .ok (.aload_n 0, 1) := dk_42 (dk_at dksL_law_42 2 rfl rfl)
theorem dL_law_1179 : decode cL_law 1179 = .ok (.iload 5, 2) := dk_21 5 (dk_at dksL_law_42 3 rfl rfl)
theorem dL_law_1181 : decode cL_law 1181 = .ok (.iconst 2, 1) := dk_5 (dk_at dksL_law_42 5 rfl rfl)
theorem dL_law_1182 : decode cL_law 1182 = .ok (.iadd, 1) := dk_96 (dk_at dksL_law_42 6 rfl rfl)
theorem dL_law_1183 : decode cL_law 1183 = .ok (.iaload, 1) := dk_46 (dk_at dksL_law_42 7 rfl rfl)
theorem dL_law_1184 : decode cL_law 1184 = .ok (.aload_n 3, 1) := dk_45 (dk_at dksL_law_42 8 rfl rfl)
theorem dL_law_1185 : decode cL_law 1185 = .ok (.invokestatic 197, 3) := dk_184 0 197 (dk_at dksL_law_42 9 rfl rfl)
theorem dL_law_1188 : decode cL_law 1188 = .ok (.istore 6, 2) := dk_54 6 (dk_at dksL_law_42 12 rfl rfl)
theorem dL_law_1190 : decode cL_law 1190 = .ok (.aload_n 2, 1) := dk_44 (dk_at dksL_law_42 14 rfl rfl)
theorem dL_law_1191 : decode cL_law 1191 = .ok (.aload_n 0, 1) := dk_42 (dk_at dksL_law_42 15 rfl rfl)
theorem dL_law_1192 : decode cL_law 1192 = .ok (.iload 5, 2) := dk_21 5 (dk_at dksL_law_42 16 rfl rfl)
theorem dL_law_1194 : decode cL_law 1194 = .ok (.iconst 1, 1) := dk_4 (dk_at dksL_law_42 18 rfl rfl)
theorem dL_law_1195 : decode cL_law 1195 = .ok (.iadd, 1) := dk_96 (dk_at dksL_law_42 19 rfl rfl)
theorem dL_law_1196 : decode cL_law 1196 = .ok (.iaload, 1) := dk_46 (dk_at dksL_law_42 20 rfl rfl)
theorem dL_law_1197 : decode cL_law 1197 = .ok (.aload_n 0, 1) := dk_42 (dk_at dksL_law_42 21 rfl rfl)
theorem dL_law_1198 : decode cL_law 1198 = .ok (.iload 5, 2) := dk_21 5 (dk_at dksL_law_42 22 rfl rfl)
theorem dL_law_1200 : decode cL_law 1200 = .ok (.iconst 2, 1) := dk_5 (dk_at dksL_law_43 0 rfl rfl)
theorem dL_law_1201 : decode cL_law 1201 = .ok (.iadd, 1) := dk_96 (dk_at dksL_law_43 1 rfl rfl)
theorem dL_law_1202 : decode cL_law 1202 = .ok (.iaload, 1) := dk_46 (dk_at dksL_law_43 2 rfl rfl)
theorem dL_law_1203 : decode cL_law 1203 = .ok (.invokevirtual 199, 3) := dk_182 0 199 (dk_at dksL_law_43 3 rfl rfl)
theorem dL_law_1206 : decode cL_law 1206 = .ok (.istore 7, 2) := dk_54 7 (dk_at dksL_law_43 6 rfl rfl)
theorem dL_law_1208 : decode cL_law 1208 = .ok (.aload_n 2, 1) := dk_44 (dk_at dksL_law_43 8 rfl rfl)
theorem dL_law_1209 : decode cL_law 1209 = .ok (.invokevirtual 138, 3) := dk_182 0 138 (dk_at dksL_law_43 9 rfl rfl)
theorem dL_law_1212 : decode cL_law 1212 = .ok (.iload 6, 2) := dk_21 6 (dk_at dksL_law_43 12 rfl rfl)
theorem dL_law_1214 : decode cL_law 1214 = .ok (.if_icmp .eq 5, 3) := dk_159 0 5 (dk_at dksL_law_43 14 rfl rfl)
theorem dL_law_1217 : decode cL_law 1217 = .ok (.iconst 0, 1) := dk_3 (dk_at dksL_law_43 17 rfl rfl)
theorem dL_law_1218 : decode cL_law 1218 = .ok (.ireturn, 1) := dk_172 (dk_at dksL_law_43 18 rfl rfl)
theorem dL_law_1219 : decode cL_law 1219 = .ok (.iload 6, 2) := dk_21 6 (dk_at dksL_law_43 19 rfl rfl)
theorem dL_law_1221 : decode cL_law 1221 = .ok (.ifCond .ne 15, 3) := dk_154 0 15 (dk_at dksL_law_43 21 rfl rfl)
theorem dL_law_1224 : decode cL_law 1224 = .ok (.aload_n 3, 1) := dk_45 (dk_at dksL_law_44 0 rfl rfl)
theorem dL_law_1225 : decode cL_law 1225 = .ok (.iconst 0, 1) := dk_3 (dk_at dksL_law_44 1 rfl rfl)
theorem dL_law_1226 : decode cL_law 1226 = .ok (.laload, 1) := dk_47 (dk_at dksL_law_44 2 rfl rfl)
theorem dL_law_1227 : decode cL_law 1227 = .ok (.iload 7, 2) := dk_21 7 (dk_at dksL_law_44 3 rfl rfl)
theorem dL_law_1229 : decode cL_law 1229 = .ok (.i2l, 1) := dk_133 (dk_at dksL_law_44 5 rfl rfl)
theorem dL_law_1230 : decode cL_law 1230 = .ok (.lcmp, 1) := dk_148 (dk_at dksL_law_44 6 rfl rfl)
theorem dL_law_1231 : decode cL_law 1231 = .ok (.ifCond .eq 5, 3) := dk_153 0 5 (dk_at dksL_law_44 7 rfl rfl)
theorem dL_law_1234 : decode cL_law 1234 = .ok (.iconst 0, 1) := dk_3 (dk_at dksL_law_44 10 rfl rfl)
theorem dL_law_1235 : decode cL_law 1235 = .ok (.ireturn, 1) := dk_172 (dk_at dksL_law_44 11 rfl rfl)
theorem dL_law_1236 : decode cL_law 1236 = .ok (.goto 1168, 3) := dk_167 4 144 (dk_at dksL_law_44 12 rfl rfl)
theorem dL_law_1239 : decode cL_law 1239 = .ok (.aload_n 1, 1) := dk_43 (dk_at dksL_law_44 15 rfl rfl)
theorem dL_law_1240 : decode cL_law 1240 = .ok (.invokevirtual 200, 3) := dk_182 0 200 (dk_at dksL_law_44 16 rfl rfl)
theorem dL_law_1243 : decode cL_law 1243 = .ok (.aload_n 2, 1) := dk_44 (dk_at dksL_law_44 19 rfl rfl)
theorem dL_law_1244 : decode cL_law 1244 = .ok (.invokevirtual 203, 3) := dk_182 0 203 (dk_at dksL_law_44 20 rfl rfl)
theorem dL_law_1247 : decode cL_law 1247 = .ok (.if_icmp .eq 1157, 3) := dk_159 4 133 (dk_at dksL_law_45 0 rfl rfl)
theorem dL_law_1250 : decode cL_law 1250 = .ok (.iconst 0, 1) := dk_3 (dk_at dksL_law_45 3 rfl rfl)
theorem dL_law_1251 : decode cL_law 1251 = .ok (.ireturn, 1) := dk_172 (dk_at dksL_law_45 4 rfl rfl)
theorem dL_law_1252 : decode cL_law 1252 = .ok (.aload_n 1, 1) := dk_43 (dk_at dksL_law_45 5 rfl rfl)
theorem dL_law_1253 : decode cL_law 1253 = .ok (.invokevirtual 204, 3) := dk_182 0 204 (dk_at dksL_law_45 6 rfl rfl)
theorem dL_law_1256 : decode cL_law 1256 = .ok (.aload_n 2, 1) := dk_44 (dk_at dksL_law_45 9 rfl rfl)
theorem dL_law_1257 : decode cL_law 1257 = .ok (.invokevirtual 207, 3) := dk_182 0 207 (dk_at dksL_law_45 10 rfl rfl)
theorem dL_law_1260 : decode cL_law 1260 = .ok (.if_icmp .eq 1144, 3) := dk_159 4 120 (dk_at dksL_law_45 13 rfl rfl)
theorem dL_law_1263 : decode cL_law 1263 = .ok (.iconst 0, 1) := dk_3 (dk_at dksL_law_45 16 rfl rfl)
theorem dL_law_1264 : decode cL_law 1264 = .ok (.ireturn, 1) := dk_172 (dk_at dksL_law_45 17 rfl rfl)
theorem dL_law_1265 : decode cL_law 1265 = .ok (.aload_n 1, 1) := dk_43 (dk_at dksL_law_45 18 rfl rfl)
theorem dL_law_1266 : decode cL_law 1266 = .ok (.invokevirtual 208, 3) := dk_182 0 208 (dk_at dksL_law_45 19 rfl rfl)
theorem dL_law_1269 : decode cL_law 1269 = .ok (.aload_n 2, 1) := dk_44 (dk_at dksL_law_45 22 rfl rfl)
theorem dL_law_1270 : decode cL_law 1270 = .ok (.invokevirtual 211, 3) := dk_182 0 211 (dk_at dksL_law_46 0 rfl rfl)
theorem dL_law_1273 : decode cL_law 1273 = .ok (.if_icmp .eq 1131, 3) := dk_159 4 107 (dk_at dksL_law_46 3 rfl rfl)
theorem dL_law_1276 : decode cL_law 1276 = .ok (.iconst 0, 1) := dk_3 (dk_at dksL_law_46 6 rfl rfl)
theorem dL_law_1277 : decode cL_law 1277 = .ok (.ireturn, 1) := dk_172 (dk_at dksL_law_46 7 rfl rfl)
theorem dL_law_1278 : decode cL_law 1278 = .ok (.aload_n 1, 1) := dk_43 (dk_at dksL_law_46 8 rfl rfl)
theorem dL_law_1279 : decode cL_law 1279 = .ok (.aload_n 0, 1) := dk_42 (dk_at dksL_law_46 9 rfl rfl)
theorem dL_law_1280 : decode cL_law 1280 = .ok (.iload 5, 2) := dk_21 5 (dk_at dksL_law_46 10 rfl rfl)
theorem dL_law_1282 : decode cL_law 1282 = .ok (.iconst 1, 1) := dk_4 (dk_at dksL_law_46 12 rfl rfl)
theorem dL_law_1283 : decode cL_law 1283 = .ok (.iadd, 1) := dk_96 (dk_at dksL_law_46 13 rfl rfl)
theorem dL_law_1284 : decode cL_law 1284 = .ok (.iaload, 1) := dk_46 (dk_at dksL_law_46 14 rfl rfl)
theorem dL_law_1285 : decode cL_law 1285 = .ok (.aload_n 3, 1) := dk_45 (dk_at dksL_law_46 15 rfl rfl)
theorem dL_law_1286 : decode cL_law 1286 = .ok (.invokestatic 212, 3) := dk_184 0 212 (dk_at dksL_law_46 16 rfl rfl)
theorem dL_law_1289 : decode cL_law 1289 = .ok (.istore 6, 2) := dk_54 6 (dk_at dksL_law_46 19 rfl rfl)
theorem dL_law_1291 : decode cL_law 1291 = .ok (.aload_n 2, 1) := dk_44 (dk_at dksL_law_46 21 rfl rfl)
theorem dL_law_1292 : decode cL_law 1292 = .ok (.aload_n 0, 1) := dk_42 (dk_at dksL_law_46 22 rfl rfl)
theorem dL_law_1293 : decode cL_law 1293 = .ok (.iload 5, 2) := dk_21 5 (dk_at dksL_law_47 0 rfl rfl)
theorem dL_law_1295 : decode cL_law 1295 = .ok (.iconst 1, 1) := dk_4 (dk_at dksL_law_47 2 rfl rfl)
theorem dL_law_1296 : decode cL_law 1296 = .ok (.iadd, 1) := dk_96 (dk_at dksL_law_47 3 rfl rfl)
theorem dL_law_1297 : decode cL_law 1297 = .ok (.iaload, 1) := dk_46 (dk_at dksL_law_47 4 rfl rfl)
theorem dL_law_1298 : decode cL_law 1298 = .ok (.invokevirtual 214, 3) := dk_182 0 214 (dk_at dksL_law_47 5 rfl rfl)
theorem dL_law_1301 : decode cL_law 1301 = .ok (.istore 7, 2) := dk_54 7 (dk_at dksL_law_47 8 rfl rfl)
theorem dL_law_1303 : decode cL_law 1303 = .ok (.aload_n 2, 1) := dk_44 (dk_at dksL_law_47 10 rfl rfl)
theorem dL_law_1304 : decode cL_law 1304 = .ok (.invokevirtual 138, 3) := dk_182 0 138 (dk_at dksL_law_47 11 rfl rfl)
theorem dL_law_1307 : decode cL_law 1307 = .ok (.iload 6, 2) := dk_21 6 (dk_at dksL_law_47 14 rfl rfl)
theorem dL_law_1309 : decode cL_law 1309 = .ok (.if_icmp .eq 5, 3) := dk_159 0 5 (dk_at dksL_law_47 16 rfl rfl)
theorem dL_law_1312 : decode cL_law 1312 = .ok (.iconst 0, 1) := dk_3 (dk_at dksL_law_47 19 rfl rfl)
theorem dL_law_1313 : decode cL_law 1313 = .ok (.ireturn, 1) := dk_172 (dk_at dksL_law_47 20 rfl rfl)
theorem dL_law_1314 : decode cL_law 1314 = .ok (.iload 6, 2) := dk_21 6 (dk_at dksL_law_47 21 rfl rfl)
theorem dL_law_1316 : decode cL_law 1316 = .ok (.ifCond .ne 15, 3) := dk_154 0 15 (dk_at dksL_law_48 0 rfl rfl)
theorem dL_law_1319 : decode cL_law 1319 = .ok (.aload_n 3, 1) := dk_45 (dk_at dksL_law_48 3 rfl rfl)
theorem dL_law_1320 : decode cL_law 1320 = .ok (.iconst 0, 1) := dk_3 (dk_at dksL_law_48 4 rfl rfl)
theorem dL_law_1321 : decode cL_law 1321 = .ok (.laload, 1) := dk_47 (dk_at dksL_law_48 5 rfl rfl)
theorem dL_law_1322 : decode cL_law 1322 = .ok (.iload 7, 2) := dk_21 7 (dk_at dksL_law_48 6 rfl rfl)
theorem dL_law_1324 : decode cL_law 1324 = .ok (.i2l, 1) := dk_133 (dk_at dksL_law_48 8 rfl rfl)
theorem dL_law_1325 : decode cL_law 1325 = .ok (.lcmp, 1) := dk_148 (dk_at dksL_law_48 9 rfl rfl)
theorem dL_law_1326 : decode cL_law 1326 = .ok (.ifCond .eq 5, 3) := dk_153 0 5 (dk_at dksL_law_48 10 rfl rfl)
theorem dL_law_1329 : decode cL_law 1329 = .ok (.iconst 0, 1) := dk_3 (dk_at dksL_law_48 13 rfl rfl)
theorem dL_law_1330 : decode cL_law 1330 = .ok (.ireturn, 1) := dk_172 (dk_at dksL_law_48 14 rfl rfl)
theorem dL_law_1331 : decode cL_law 1331 = .ok (.goto 1073, 3) := dk_167 4 49 (dk_at dksL_law_48 15 rfl rfl)
theorem dL_law_1334 : decode cL_law 1334 = .ok (.aload_n 1, 1) := dk_43 (dk_at dksL_law_48 18 rfl rfl)
theorem dL_law_1335 : decode cL_law 1335 = .ok (.aload_n 0, 1) := dk_42 (dk_at dksL_law_48 19 rfl rfl)
theorem dL_law_1336 : decode cL_law 1336 = .ok (.iload 5, 2) := dk_21 5 (dk_at dksL_law_48 20 rfl rfl)
theorem dL_law_1338 : decode cL_law 1338 = .ok (.iconst 1, 1) := dk_4 (dk_at dksL_law_48 22 rfl rfl)
theorem dL_law_1339 : decode cL_law 1339 = .ok (.iadd, 1) := dk_96 (dk_at dksL_law_48 23 rfl rfl)
theorem dL_law_1340 : decode cL_law 1340 = .ok (.iaload, 1) := dk_46 (dk_at dksL_law_49 0 rfl rfl)
theorem dL_law_1341 : decode cL_law 1341 = .ok (.aload_n 3, 1) := dk_45 (dk_at dksL_law_49 1 rfl rfl)
theorem dL_law_1342 : decode cL_law 1342 = .ok (.invokestatic 215, 3) := dk_184 0 215 (dk_at dksL_law_49 2 rfl rfl)
theorem dL_law_1345 : decode cL_law 1345 = .ok (.istore 6, 2) := dk_54 6 (dk_at dksL_law_49 5 rfl rfl)
theorem dL_law_1347 : decode cL_law 1347 = .ok (.aload_n 2, 1) := dk_44 (dk_at dksL_law_49 7 rfl rfl)
theorem dL_law_1348 : decode cL_law 1348 = .ok (.aload_n 0, 1) := dk_42 (dk_at dksL_law_49 8 rfl rfl)
theorem dL_law_1349 : decode cL_law 1349 = .ok (.iload 5, 2) := dk_21 5 (dk_at dksL_law_49 9 rfl rfl)
theorem dL_law_1351 : decode cL_law 1351 = .ok (.iconst 1, 1) := dk_4 (dk_at dksL_law_49 11 rfl rfl)
theorem dL_law_1352 : decode cL_law 1352 = .ok (.iadd, 1) := dk_96 (dk_at dksL_law_49 12 rfl rfl)
theorem dL_law_1353 : decode cL_law 1353 = .ok (.iaload, 1) := dk_46 (dk_at dksL_law_49 13 rfl rfl)
theorem dL_law_1354 : decode cL_law 1354 = .ok (.invokevirtual 217, 3) := dk_182 0 217 (dk_at dksL_law_49 14 rfl rfl)
theorem dL_law_1357 : decode cL_law 1357 = .ok (.istore 7, 2) := dk_54 7 (dk_at dksL_law_49 17 rfl rfl)
theorem dL_law_1359 : decode cL_law 1359 = .ok (.aload_n 2, 1) := dk_44 (dk_at dksL_law_49 19 rfl rfl)
theorem dL_law_1360 : decode cL_law 1360 = .ok (.invokevirtual 138, 3) := dk_182 0 138 (dk_at dksL_law_49 20 rfl rfl)
theorem dL_law_1363 : decode cL_law 1363 = .ok (.iload 6, 2) := dk_21 6 (dk_at dksL_law_50 0 rfl rfl)
theorem dL_law_1365 : decode cL_law 1365 = .ok (.if_icmp .eq 5, 3) := dk_159 0 5 (dk_at dksL_law_50 2 rfl rfl)
theorem dL_law_1368 : decode cL_law 1368 = .ok (.iconst 0, 1) := dk_3 (dk_at dksL_law_50 5 rfl rfl)
theorem dL_law_1369 : decode cL_law 1369 = .ok (.ireturn, 1) := dk_172 (dk_at dksL_law_50 6 rfl rfl)
theorem dL_law_1370 : decode cL_law 1370 = .ok (.iload 6, 2) := dk_21 6 (dk_at dksL_law_50 7 rfl rfl)
theorem dL_law_1372 : decode cL_law 1372 = .ok (.ifCond .ne 15, 3) := dk_154 0 15 (dk_at dksL_law_50 9 rfl rfl)
theorem dL_law_1375 : decode cL_law 1375 = .ok (.aload_n 3, 1) := dk_45 (dk_at dksL_law_50 12 rfl rfl)
theorem dL_law_1376 : decode cL_law 1376 = .ok (.iconst 0, 1) := dk_3 (dk_at dksL_law_50 13 rfl rfl)
theorem dL_law_1377 : decode cL_law 1377 = .ok (.laload, 1) := dk_47 (dk_at dksL_law_50 14 rfl rfl)
theorem dL_law_1378 : decode cL_law 1378 = .ok (.iload 7, 2) := dk_21 7 (dk_at dksL_law_50 15 rfl rfl)
theorem dL_law_1380 : decode cL_law 1380 = .ok (.i2l, 1) := dk_133 (dk_at dksL_law_50 17 rfl rfl)
theorem dL_law_1381 : decode cL_law 1381 = .ok (.lcmp, 1) := dk_148 (dk_at dksL_law_50 18 rfl rfl)
theorem dL_law_1382 : decode cL_law 1382 = .ok (.ifCond .eq 5, 3) := dk_153 0 5 (dk_at dksL_law_50 19 rfl rfl)
theorem dL_law_1385 : decode cL_law 1385 = .ok (.iconst 0, 1) := dk_3 (dk_at dksL_law_50 22 rfl rfl)
theorem dL_law_1386 : decode cL_law 1386 = .ok (.ireturn, 1) := dk_172 (dk_at dksL_law_50 23 rfl rfl)
theorem dL_law_1387 : decode cL_law 1387 = .ok (.goto 1017, 3) := dk_167 3 249 (dk_at dksL_law_51 0 rfl rfl)
theorem dL_law_1390 : decode cL_law 1390 = .ok (.aload_n 1, 1) := dk_43 (dk_at dksL_law_51 3 rfl rfl)
theorem dL_law_1391 : decode cL_law 1391 = .ok (.aload_n 0, 1) := dk_42 (dk_at dksL_law_51 4 rfl rfl)
theorem dL_law_1392 : decode cL_law 1392 = .ok (.iload 5, 2) := dk_21 5 (dk_at dksL_law_51 5 rfl rfl)
theorem dL_law_1394 : decode cL_law 1394 = .ok (.iconst 1, 1) := dk_4 (dk_at dksL_law_51 7 rfl rfl)
theorem dL_law_1395 : decode cL_law 1395 = .ok (.iadd, 1) := dk_96 (dk_at dksL_law_51 8 rfl rfl)
theorem dL_law_1396 : decode cL_law 1396 = .ok (.iaload, 1) := dk_46 (dk_at dksL_law_51 9 rfl rfl)
theorem dL_law_1397 : decode cL_law 1397 = .ok (.aload_n 3, 1) := dk_45 (dk_at dksL_law_51 10 rfl rfl)
theorem dL_law_1398 : decode cL_law 1398 = .ok (.invokestatic 218, 3) := dk_184 0 218 (dk_at dksL_law_51 11 rfl rfl)
theorem dL_law_1401 : decode cL_law 1401 = .ok (.istore 6, 2) := dk_54 6 (dk_at dksL_law_51 14 rfl rfl)
theorem dL_law_1403 : decode cL_law 1403 = .ok (.aload_n 2, 1) := dk_44 (dk_at dksL_law_51 16 rfl rfl)
theorem dL_law_1404 : decode cL_law 1404 = .ok (.aload_n 0, 1) := dk_42 (dk_at dksL_law_51 17 rfl rfl)
theorem dL_law_1405 : decode cL_law 1405 = .ok (.iload 5, 2) := dk_21 5 (dk_at dksL_law_51 18 rfl rfl)
theorem dL_law_1407 : decode cL_law 1407 = .ok (.iconst 1, 1) := dk_4 (dk_at dksL_law_51 20 rfl rfl)
theorem dL_law_1408 : decode cL_law 1408 = .ok (.iadd, 1) := dk_96 (dk_at dksL_law_51 21 rfl rfl)
theorem dL_law_1409 : decode cL_law 1409 = .ok (.iaload, 1) := dk_46 (dk_at dksL_law_51 22 rfl rfl)
theorem dL_law_1410 : decode cL_law 1410 = .ok (.invokevirtual 220, 3) := dk_182 0 220 (dk_at dksL_law_52 0 rfl rfl)
theorem dL_law_1413 : decode cL_law 1413 = .ok (.istore 7, 2) := dk_54 7 (dk_at dksL_law_52 3 rfl rfl)
theorem dL_law_1415 : decode cL_law 1415 = .ok (.aload_n 2, 1) := dk_44 (dk_at dksL_law_52 5 rfl rfl)
theorem dL_law_1416 : decode cL_law 1416 = .ok (.invokevirtual 138, 3) := dk_182 0 138 (dk_at dksL_law_52 6 rfl rfl)
theorem dL_law_1419 : decode cL_law 1419 = .ok (.iload 6, 2) := dk_21 6 (dk_at dksL_law_52 9 rfl rfl)
theorem dL_law_1421 : decode cL_law 1421 = .ok (.if_icmp .eq 5, 3) := dk_159 0 5 (dk_at dksL_law_52 11 rfl rfl)
theorem dL_law_1424 : decode cL_law 1424 = .ok (.iconst 0, 1) := dk_3 (dk_at dksL_law_52 14 rfl rfl)
theorem dL_law_1425 : decode cL_law 1425 = .ok (.ireturn, 1) := dk_172 (dk_at dksL_law_52 15 rfl rfl)
theorem dL_law_1426 : decode cL_law 1426 = .ok (.iload 6, 2) := dk_21 6 (dk_at dksL_law_52 16 rfl rfl)
theorem dL_law_1428 : decode cL_law 1428 = .ok (.ifCond .ne 15, 3) := dk_154 0 15 (dk_at dksL_law_52 18 rfl rfl)
theorem dL_law_1431 : decode cL_law 1431 = .ok (.aload_n 3, 1) := dk_45 (dk_at dksL_law_52 21 rfl rfl)
theorem dL_law_1432 : decode cL_law 1432 = .ok (.iconst 0, 1) := dk_3 (dk_at dksL_law_52 22 rfl rfl)
theorem dL_law_1433 : decode cL_law 1433 = .ok (.laload, 1) := dk_47 (dk_at dksL_law_52 23 rfl rfl)
theorem dL_law_1434 : decode cL_law 1434 = .ok (.iload 7, 2) := dk_21 7 (dk_at dksL_law_53 0 rfl rfl)
theorem dL_law_1436 : decode cL_law 1436 = .ok (.i2l, 1) := dk_133 (dk_at dksL_law_53 2 rfl rfl)
theorem dL_law_1437 : decode cL_law 1437 = .ok (.lcmp, 1) := dk_148 (dk_at dksL_law_53 3 rfl rfl)
theorem dL_law_1438 : decode cL_law 1438 = .ok (.ifCond .eq 5, 3) := dk_153 0 5 (dk_at dksL_law_53 4 rfl rfl)
theorem dL_law_1441 : decode cL_law 1441 = .ok (.iconst 0, 1) := dk_3 (dk_at dksL_law_53 7 rfl rfl)
theorem dL_law_1442 : decode cL_law 1442 = .ok (.ireturn, 1) := dk_172 (dk_at dksL_law_53 8 rfl rfl)
theorem dL_law_1443 : decode cL_law 1443 = .ok (.goto 961, 3) := dk_167 3 193 (dk_at dksL_law_53 9 rfl rfl)
theorem dL_law_1446 : decode cL_law 1446 = .ok (.aload_n 1, 1) := dk_43 (dk_at dksL_law_53 12 rfl rfl)
theorem dL_law_1447 : decode cL_law 1447 = .ok (.aload_n 0, 1) := dk_42 (dk_at dksL_law_53 13 rfl rfl)
theorem dL_law_1448 : decode cL_law 1448 = .ok (.iload 5, 2) := dk_21 5 (dk_at dksL_law_53 14 rfl rfl)
theorem dL_law_1450 : decode cL_law 1450 = .ok (.iconst 1, 1) := dk_4 (dk_at dksL_law_53 16 rfl rfl)
theorem dL_law_1451 : decode cL_law 1451 = .ok (.iadd, 1) := dk_96 (dk_at dksL_law_53 17 rfl rfl)
theorem dL_law_1452 : decode cL_law 1452 = .ok (.iaload, 1) := dk_46 (dk_at dksL_law_53 18 rfl rfl)
theorem dL_law_1453 : decode cL_law 1453 = .ok (.aload_n 3, 1) := dk_45 (dk_at dksL_law_53 19 rfl rfl)
theorem dL_law_1454 : decode cL_law 1454 = .ok (.invokestatic 221, 3) := dk_184 0 221 (dk_at dksL_law_53 20 rfl rfl)
theorem dL_law_1457 : decode cL_law 1457 = .ok (.istore 6, 2) := dk_54 6 (dk_at dksL_law_54 0 rfl rfl)
theorem dL_law_1459 : decode cL_law 1459 = .ok (.aload_n 2, 1) := dk_44 (dk_at dksL_law_54 2 rfl rfl)
theorem dL_law_1460 : decode cL_law 1460 = .ok (.aload_n 0, 1) := dk_42 (dk_at dksL_law_54 3 rfl rfl)
theorem dL_law_1461 : decode cL_law 1461 = .ok (.iload 5, 2) := dk_21 5 (dk_at dksL_law_54 4 rfl rfl)
theorem dL_law_1463 : decode cL_law 1463 = .ok (.iconst 1, 1) := dk_4 (dk_at dksL_law_54 6 rfl rfl)
theorem dL_law_1464 : decode cL_law 1464 = .ok (.iadd, 1) := dk_96 (dk_at dksL_law_54 7 rfl rfl)
theorem dL_law_1465 : decode cL_law 1465 = .ok (.iaload, 1) := dk_46 (dk_at dksL_law_54 8 rfl rfl)
theorem dL_law_1466 : decode cL_law 1466 = .ok (.invokevirtual 223, 3) := dk_182 0 223 (dk_at dksL_law_54 9 rfl rfl)
theorem dL_law_1469 : decode cL_law 1469 = .ok (.istore 7, 2) := dk_54 7 (dk_at dksL_law_54 12 rfl rfl)
theorem dL_law_1471 : decode cL_law 1471 = .ok (.aload_n 2, 1) := dk_44 (dk_at dksL_law_54 14 rfl rfl)
theorem dL_law_1472 : decode cL_law 1472 = .ok (.invokevirtual 138, 3) := dk_182 0 138 (dk_at dksL_law_54 15 rfl rfl)
theorem dL_law_1475 : decode cL_law 1475 = .ok (.iload 6, 2) := dk_21 6 (dk_at dksL_law_54 18 rfl rfl)
theorem dL_law_1477 : decode cL_law 1477 = .ok (.if_icmp .eq 5, 3) := dk_159 0 5 (dk_at dksL_law_54 20 rfl rfl)
theorem dL_law_1480 : decode cL_law 1480 = .ok (.iconst 0, 1) := dk_3 (dk_at dksL_law_54 23 rfl rfl)
theorem dL_law_1481 : decode cL_law 1481 = .ok (.ireturn, 1) := dk_172 (dk_at dksL_law_55 0 rfl rfl)
theorem dL_law_1482 : decode cL_law 1482 = .ok (.iload 6, 2) := dk_21 6 (dk_at dksL_law_55 1 rfl rfl)
theorem dL_law_1484 : decode cL_law 1484 = .ok (.ifCond .ne 15, 3) := dk_154 0 15 (dk_at dksL_law_55 3 rfl rfl)
theorem dL_law_1487 : decode cL_law 1487 = .ok (.aload_n 3, 1) := dk_45 (dk_at dksL_law_55 6 rfl rfl)
theorem dL_law_1488 : decode cL_law 1488 = .ok (.iconst 0, 1) := dk_3 (dk_at dksL_law_55 7 rfl rfl)
theorem dL_law_1489 : decode cL_law 1489 = .ok (.laload, 1) := dk_47 (dk_at dksL_law_55 8 rfl rfl)
theorem dL_law_1490 : decode cL_law 1490 = .ok (.iload 7, 2) := dk_21 7 (dk_at dksL_law_55 9 rfl rfl)
theorem dL_law_1492 : decode cL_law 1492 = .ok (.i2l, 1) := dk_133 (dk_at dksL_law_55 11 rfl rfl)
theorem dL_law_1493 : decode cL_law 1493 = .ok (.lcmp, 1) := dk_148 (dk_at dksL_law_55 12 rfl rfl)
theorem dL_law_1494 : decode cL_law 1494 = .ok (.ifCond .eq 5, 3) := dk_153 0 5 (dk_at dksL_law_55 13 rfl rfl)
theorem dL_law_1497 : decode cL_law 1497 = .ok (.iconst 0, 1) := dk_3 (dk_at dksL_law_55 16 rfl rfl)
theorem dL_law_1498 : decode cL_law 1498 = .ok (.ireturn, 1) := dk_172 (dk_at dksL_law_55 17 rfl rfl)
theorem dL_law_1499 : decode cL_law 1499 = .ok (.goto 905, 3) := dk_167 3 137 (dk_at dksL_law_55 18 rfl rfl)
theorem dL_law_1502 : decode cL_law 1502 = .ok (.aload_n 1, 1) := dk_43 (dk_at dksL_law_55 21 rfl rfl)
theorem dL_law_1503 : decode cL_law 1503 = .ok (.aload_n 0, 1) := dk_42 (dk_at dksL_law_55 22 rfl rfl)
theorem dL_law_1504 : decode cL_law 1504 = .ok (.iload 5, 2) := dk_21 5 (dk_at dksL_law_56 0 rfl rfl)
theorem dL_law_1506 : decode cL_law 1506 = .ok (.iconst 1, 1) := dk_4 (dk_at dksL_law_56 2 rfl rfl)
theorem dL_law_1507 : decode cL_law 1507 = .ok (.iadd, 1) := dk_96 (dk_at dksL_law_56 3 rfl rfl)
theorem dL_law_1508 : decode cL_law 1508 = .ok (.iaload, 1) := dk_46 (dk_at dksL_law_56 4 rfl rfl)
theorem dL_law_1509 : decode cL_law 1509 = .ok (.aload_n 3, 1) := dk_45 (dk_at dksL_law_56 5 rfl rfl)
theorem dL_law_1510 : decode cL_law 1510 = .ok (.invokestatic 224, 3) := dk_184 0 224 (dk_at dksL_law_56 6 rfl rfl)
theorem dL_law_1513 : decode cL_law 1513 = .ok (.istore 6, 2) := dk_54 6 (dk_at dksL_law_56 9 rfl rfl)
theorem dL_law_1515 : decode cL_law 1515 = .ok (.aload_n 2, 1) := dk_44 (dk_at dksL_law_56 11 rfl rfl)
theorem dL_law_1516 : decode cL_law 1516 = .ok (.aload_n 0, 1) := dk_42 (dk_at dksL_law_56 12 rfl rfl)
theorem dL_law_1517 : decode cL_law 1517 = .ok (.iload 5, 2) := dk_21 5 (dk_at dksL_law_56 13 rfl rfl)
theorem dL_law_1519 : decode cL_law 1519 = .ok (.iconst 1, 1) := dk_4 (dk_at dksL_law_56 15 rfl rfl)
theorem dL_law_1520 : decode cL_law 1520 = .ok (.iadd, 1) := dk_96 (dk_at dksL_law_56 16 rfl rfl)
theorem dL_law_1521 : decode cL_law 1521 = .ok (.iaload, 1) := dk_46 (dk_at dksL_law_56 17 rfl rfl)
theorem dL_law_1522 : decode cL_law 1522 = .ok (.invokevirtual 226, 3) := dk_182 0 226 (dk_at dksL_law_56 18 rfl rfl)
theorem dL_law_1525 : decode cL_law 1525 = .ok (.istore 7, 2) := dk_54 7 (dk_at dksL_law_56 21 rfl rfl)
theorem dL_law_1527 : decode cL_law 1527 = .ok (.aload_n 2, 1) := dk_44 (dk_at dksL_law_56 23 rfl rfl)
theorem dL_law_1528 : decode cL_law 1528 = .ok (.invokevirtual 138, 3) := dk_182 0 138 (dk_at dksL_law_57 0 rfl rfl)
theorem dL_law_1531 : decode cL_law 1531 = .ok (.iload 6, 2) := dk_21 6 (dk_at dksL_law_57 3 rfl rfl)
theorem dL_law_1533 : decode cL_law 1533 = .ok (.if_icmp .eq 5, 3) := dk_159 0 5 (dk_at dksL_law_57 5 rfl rfl)
theorem dL_law_1536 : decode cL_law 1536 = .ok (.iconst 0, 1) := dk_3 (dk_at dksL_law_57 8 rfl rfl)
theorem dL_law_1537 : decode cL_law 1537 = .ok (.ireturn, 1) := dk_172 (dk_at dksL_law_57 9 rfl rfl)
theorem dL_law_1538 : decode cL_law 1538 = .ok (.iload 6, 2) := dk_21 6 (dk_at dksL_law_57 10 rfl rfl)
theorem dL_law_1540 : decode cL_law 1540 = .ok (.ifCond .ne 15, 3) := dk_154 0 15 (dk_at dksL_law_57 12 rfl rfl)
theorem dL_law_1543 : decode cL_law 1543 = .ok (.aload_n 3, 1) := dk_45 (dk_at dksL_law_57 15 rfl rfl)
theorem dL_law_1544 : decode cL_law 1544 = .ok (.iconst 0, 1) := dk_3 (dk_at dksL_law_57 16 rfl rfl)
theorem dL_law_1545 : decode cL_law 1545 = .ok (.laload, 1) := dk_47 (dk_at dksL_law_57 17 rfl rfl)
theorem dL_law_1546 : decode cL_law 1546 = .ok (.iload 7, 2) := dk_21 7 (dk_at dksL_law_57 18 rfl rfl)
theorem dL_law_1548 : decode cL_law 1548 = .ok (.i2l, 1) := dk_133 (dk_at dksL_law_57 20 rfl rfl)
theorem dL_law_1549 : decode cL_law 1549 = .ok (.lcmp, 1) := dk_148 (dk_at dksL_law_57 21 rfl rfl)
theorem dL_law_1550 : decode cL_law 1550 = .ok (.ifCond .eq 5, 3) := dk_153 0 5 (dk_at dksL_law_58 0 rfl rfl)
theorem dL_law_1553 : decode cL_law 1553 = .ok (.iconst 0, 1) := dk_3 (dk_at dksL_law_58 3 rfl rfl)
theorem dL_law_1554 : decode cL_law 1554 = .ok (.ireturn, 1) := dk_172 (dk_at dksL_law_58 4 rfl rfl)
theorem dL_law_1555 : decode cL_law 1555 = .ok (.goto 849, 3) := dk_167 3 81 (dk_at dksL_law_58 5 rfl rfl)
theorem dL_law_1558 : decode cL_law 1558 = .ok (.aload_n 1, 1) := dk_43 (dk_at dksL_law_58 8 rfl rfl)
theorem dL_law_1559 : decode cL_law 1559 = .ok (.aload_n 0, 1) := dk_42 (dk_at dksL_law_58 9 rfl rfl)
theorem dL_law_1560 : decode cL_law 1560 = .ok (.iload 5, 2) := dk_21 5 (dk_at dksL_law_58 10 rfl rfl)
theorem dL_law_1562 : decode cL_law 1562 = .ok (.iconst 1, 1) := dk_4 (dk_at dksL_law_58 12 rfl rfl)
theorem dL_law_1563 : decode cL_law 1563 = .ok (.iadd, 1) := dk_96 (dk_at dksL_law_58 13 rfl rfl)
theorem dL_law_1564 : decode cL_law 1564 = .ok (.iaload, 1) := dk_46 (dk_at dksL_law_58 14 rfl rfl)
theorem dL_law_1565 : decode cL_law 1565 = .ok (.aload_n 3, 1) := dk_45 (dk_at dksL_law_58 15 rfl rfl)
theorem dL_law_1566 : decode cL_law 1566 = .ok (.invokestatic 227, 3) := dk_184 0 227 (dk_at dksL_law_58 16 rfl rfl)
theorem dL_law_1569 : decode cL_law 1569 = .ok (.istore 6, 2) := dk_54 6 (dk_at dksL_law_58 19 rfl rfl)
theorem dL_law_1571 : decode cL_law 1571 = .ok (.aload_n 2, 1) := dk_44 (dk_at dksL_law_58 21 rfl rfl)
theorem dL_law_1572 : decode cL_law 1572 = .ok (.aload_n 0, 1) := dk_42 (dk_at dksL_law_58 22 rfl rfl)
theorem dL_law_1573 : decode cL_law 1573 = .ok (.iload 5, 2) := dk_21 5 (dk_at dksL_law_59 0 rfl rfl)
theorem dL_law_1575 : decode cL_law 1575 = .ok (.iconst 1, 1) := dk_4 (dk_at dksL_law_59 2 rfl rfl)
theorem dL_law_1576 : decode cL_law 1576 = .ok (.iadd, 1) := dk_96 (dk_at dksL_law_59 3 rfl rfl)
theorem dL_law_1577 : decode cL_law 1577 = .ok (.iaload, 1) := dk_46 (dk_at dksL_law_59 4 rfl rfl)
theorem dL_law_1578 : decode cL_law 1578 = .ok (.invokevirtual 229, 3) := dk_182 0 229 (dk_at dksL_law_59 5 rfl rfl)
theorem dL_law_1581 : decode cL_law 1581 = .ok (.istore 7, 2) := dk_54 7 (dk_at dksL_law_59 8 rfl rfl)
theorem dL_law_1583 : decode cL_law 1583 = .ok (.aload_n 2, 1) := dk_44 (dk_at dksL_law_59 10 rfl rfl)
theorem dL_law_1584 : decode cL_law 1584 = .ok (.invokevirtual 138, 3) := dk_182 0 138 (dk_at dksL_law_59 11 rfl rfl)
theorem dL_law_1587 : decode cL_law 1587 = .ok (.iload 6, 2) := dk_21 6 (dk_at dksL_law_59 14 rfl rfl)
theorem dL_law_1589 : decode cL_law 1589 = .ok (.if_icmp .eq 5, 3) := dk_159 0 5 (dk_at dksL_law_59 16 rfl rfl)
theorem dL_law_1592 : decode cL_law 1592 = .ok (.iconst 0, 1) := dk_3 (dk_at dksL_law_59 19 rfl rfl)
theorem dL_law_1593 : decode cL_law 1593 = .ok (.ireturn, 1) := dk_172 (dk_at dksL_law_59 20 rfl rfl)
theorem dL_law_1594 : decode cL_law 1594 = .ok (.iload 6, 2) := dk_21 6 (dk_at dksL_law_59 21 rfl rfl)
theorem dL_law_1596 : decode cL_law 1596 = .ok (.ifCond .ne 15, 3) := dk_154 0 15 (dk_at dksL_law_60 0 rfl rfl)
theorem dL_law_1599 : decode cL_law 1599 = .ok (.aload_n 3, 1) := dk_45 (dk_at dksL_law_60 3 rfl rfl)
theorem dL_law_1600 : decode cL_law 1600 = .ok (.iconst 0, 1) := dk_3 (dk_at dksL_law_60 4 rfl rfl)
theorem dL_law_1601 : decode cL_law 1601 = .ok (.laload, 1) := dk_47 (dk_at dksL_law_60 5 rfl rfl)
theorem dL_law_1602 : decode cL_law 1602 = .ok (.iload 7, 2) := dk_21 7 (dk_at dksL_law_60 6 rfl rfl)
theorem dL_law_1604 : decode cL_law 1604 = .ok (.i2l, 1) := dk_133 (dk_at dksL_law_60 8 rfl rfl)
theorem dL_law_1605 : decode cL_law 1605 = .ok (.lcmp, 1) := dk_148 (dk_at dksL_law_60 9 rfl rfl)
theorem dL_law_1606 : decode cL_law 1606 = .ok (.ifCond .eq 5, 3) := dk_153 0 5 (dk_at dksL_law_60 10 rfl rfl)
theorem dL_law_1609 : decode cL_law 1609 = .ok (.iconst 0, 1) := dk_3 (dk_at dksL_law_60 13 rfl rfl)
theorem dL_law_1610 : decode cL_law 1610 = .ok (.ireturn, 1) := dk_172 (dk_at dksL_law_60 14 rfl rfl)
theorem dL_law_1611 : decode cL_law 1611 = .ok (.goto 793, 3) := dk_167 3 25 (dk_at dksL_law_60 15 rfl rfl)
theorem dL_law_1614 : decode cL_law 1614 = .ok (.aload_n 1, 1) := dk_43 (dk_at dksL_law_60 18 rfl rfl)
theorem dL_law_1615 : decode cL_law 1615 = .ok (.invokevirtual 230, 3) := dk_182 0 230 (dk_at dksL_law_60 19 rfl rfl)
theorem dL_law_1618 : decode cL_law 1618 = .ok (.aload_n 2, 1) := dk_44 (dk_at dksL_law_60 22 rfl rfl)
theorem dL_law_1619 : decode cL_law 1619 = .ok (.invokevirtual 233, 3) := dk_182 0 233 (dk_at dksL_law_61 0 rfl rfl)
theorem dL_law_1622 : decode cL_law 1622 = .ok (.if_icmp .eq 782, 3) := dk_159 3 14 (dk_at dksL_law_61 3 rfl rfl)
theorem dL_law_1625 : decode cL_law 1625 = .ok (.iconst 0, 1) := dk_3 (dk_at dksL_law_61 6 rfl rfl)
theorem dL_law_1626 : decode cL_law 1626 = .ok (.ireturn, 1) := dk_172 (dk_at dksL_law_61 7 rfl rfl)
theorem dL_law_1627 : decode cL_law 1627 = .ok (.aload_n 1, 1) := dk_43 (dk_at dksL_law_61 8 rfl rfl)
theorem dL_law_1628 : decode cL_law 1628 = .ok (.aload_n 0, 1) := dk_42 (dk_at dksL_law_61 9 rfl rfl)
theorem dL_law_1629 : decode cL_law 1629 = .ok (.iload 5, 2) := dk_21 5 (dk_at dksL_law_61 10 rfl rfl)
theorem dL_law_1631 : decode cL_law 1631 = .ok (.iconst 1, 1) := dk_4 (dk_at dksL_law_61 12 rfl rfl)
theorem dL_law_1632 : decode cL_law 1632 = .ok (.iadd, 1) := dk_96 (dk_at dksL_law_61 13 rfl rfl)
theorem dL_law_1633 : decode cL_law 1633 = .ok (.iaload, 1) := dk_46 (dk_at dksL_law_61 14 rfl rfl)
theorem dL_law_1634 : decode cL_law 1634 = .ok (.aload_n 3, 1) := dk_45 (dk_at dksL_law_61 15 rfl rfl)
theorem dL_law_1635 : decode cL_law 1635 = .ok (.invokestatic 234, 3) := dk_184 0 234 (dk_at dksL_law_61 16 rfl rfl)
theorem dL_law_1638 : decode cL_law 1638 = .ok (.istore 6, 2) := dk_54 6 (dk_at dksL_law_61 19 rfl rfl)
theorem dL_law_1640 : decode cL_law 1640 = .ok (.aload_n 2, 1) := dk_44 (dk_at dksL_law_61 21 rfl rfl)
theorem dL_law_1641 : decode cL_law 1641 = .ok (.aload_n 0, 1) := dk_42 (dk_at dksL_law_61 22 rfl rfl)
theorem dL_law_1642 : decode cL_law 1642 = .ok (.iload 5, 2) := dk_21 5 (dk_at dksL_law_62 0 rfl rfl)
theorem dL_law_1644 : decode cL_law 1644 = .ok (.iconst 1, 1) := dk_4 (dk_at dksL_law_62 2 rfl rfl)
theorem dL_law_1645 : decode cL_law 1645 = .ok (.iadd, 1) := dk_96 (dk_at dksL_law_62 3 rfl rfl)
theorem dL_law_1646 : decode cL_law 1646 = .ok (.iaload, 1) := dk_46 (dk_at dksL_law_62 4 rfl rfl)
theorem dL_law_1647 : decode cL_law 1647 = .ok (.invokevirtual 236, 3) := dk_182 0 236 (dk_at dksL_law_62 5 rfl rfl)
theorem dL_law_1650 : decode cL_law 1650 = .ok (.istore 7, 2) := dk_54 7 (dk_at dksL_law_62 8 rfl rfl)
theorem dL_law_1652 : decode cL_law 1652 = .ok (.aload_n 2, 1) := dk_44 (dk_at dksL_law_62 10 rfl rfl)
theorem dL_law_1653 : decode cL_law 1653 = .ok (.invokevirtual 138, 3) := dk_182 0 138 (dk_at dksL_law_62 11 rfl rfl)
theorem dL_law_1656 : decode cL_law 1656 = .ok (.iload 6, 2) := dk_21 6 (dk_at dksL_law_62 14 rfl rfl)
theorem dL_law_1658 : decode cL_law 1658 = .ok (.if_icmp .eq 5, 3) := dk_159 0 5 (dk_at dksL_law_62 16 rfl rfl)
theorem dL_law_1661 : decode cL_law 1661 = .ok (.iconst 0, 1) := dk_3 (dk_at dksL_law_62 19 rfl rfl)
theorem dL_law_1662 : decode cL_law 1662 = .ok (.ireturn, 1) := dk_172 (dk_at dksL_law_62 20 rfl rfl)
theorem dL_law_1663 : decode cL_law 1663 = .ok (.iload 6, 2) := dk_21 6 (dk_at dksL_law_62 21 rfl rfl)
theorem dL_law_1665 : decode cL_law 1665 = .ok (.ifCond .ne 15, 3) := dk_154 0 15 (dk_at dksL_law_63 0 rfl rfl)
theorem dL_law_1668 : decode cL_law 1668 = .ok (.aload_n 3, 1) := dk_45 (dk_at dksL_law_63 3 rfl rfl)
theorem dL_law_1669 : decode cL_law 1669 = .ok (.iconst 0, 1) := dk_3 (dk_at dksL_law_63 4 rfl rfl)
theorem dL_law_1670 : decode cL_law 1670 = .ok (.laload, 1) := dk_47 (dk_at dksL_law_63 5 rfl rfl)
theorem dL_law_1671 : decode cL_law 1671 = .ok (.iload 7, 2) := dk_21 7 (dk_at dksL_law_63 6 rfl rfl)
theorem dL_law_1673 : decode cL_law 1673 = .ok (.i2l, 1) := dk_133 (dk_at dksL_law_63 8 rfl rfl)
theorem dL_law_1674 : decode cL_law 1674 = .ok (.lcmp, 1) := dk_148 (dk_at dksL_law_63 9 rfl rfl)
theorem dL_law_1675 : decode cL_law 1675 = .ok (.ifCond .eq 5, 3) := dk_153 0 5 (dk_at dksL_law_63 10 rfl rfl)
theorem dL_law_1678 : decode cL_law 1678 = .ok (.iconst 0, 1) := dk_3 (dk_at dksL_law_63 13 rfl rfl)
theorem dL_law_1679 : decode cL_law 1679 = .ok (.ireturn, 1) := dk_172 (dk_at dksL_law_63 14 rfl rfl)
theorem dL_law_1680 : decode cL_law 1680 = .ok (.goto 724, 3) := dk_167 2 212 (dk_at dksL_law_63 15 rfl rfl)
theorem dL_law_1683 : decode cL_law 1683 = .ok (.aload_n 1, 1) := dk_43 (dk_at dksL_law_63 18 rfl rfl)
theorem dL_law_1684 : decode cL_law 1684 = .ok (.aload_n 0, 1) := dk_42 (dk_at dksL_law_63 19 rfl rfl)
theorem dL_law_1685 : decode cL_law 1685 = .ok (.iload 5, 2) := dk_21 5 (dk_at dksL_law_63 20 rfl rfl)
theorem dL_law_1687 : decode cL_law 1687 = .ok (.iconst 1, 1) := dk_4 (dk_at dksL_law_63 22 rfl rfl)
theorem dL_law_1688 : decode cL_law 1688 = .ok (.iadd, 1) := dk_96 (dk_at dksL_law_63 23 rfl rfl)
theorem dL_law_1689 : decode cL_law 1689 = .ok (.iaload, 1) := dk_46 (dk_at dksL_law_64 0 rfl rfl)
theorem dL_law_1690 : decode cL_law 1690 = .ok (.aload_n 3, 1) := dk_45 (dk_at dksL_law_64 1 rfl rfl)
theorem dL_law_1691 : decode cL_law 1691 = .ok (.invokestatic 237, 3) := dk_184 0 237 (dk_at dksL_law_64 2 rfl rfl)
theorem dL_law_1694 : decode cL_law 1694 = .ok (.istore 6, 2) := dk_54 6 (dk_at dksL_law_64 5 rfl rfl)
theorem dL_law_1696 : decode cL_law 1696 = .ok (.aload_n 2, 1) := dk_44 (dk_at dksL_law_64 7 rfl rfl)
theorem dL_law_1697 : decode cL_law 1697 = .ok (.aload_n 0, 1) := dk_42 (dk_at dksL_law_64 8 rfl rfl)
theorem dL_law_1698 : decode cL_law 1698 = .ok (.iload 5, 2) := dk_21 5 (dk_at dksL_law_64 9 rfl rfl)
theorem dL_law_1700 : decode cL_law 1700 = .ok (.iconst 1, 1) := dk_4 (dk_at dksL_law_64 11 rfl rfl)
theorem dL_law_1701 : decode cL_law 1701 = .ok (.iadd, 1) := dk_96 (dk_at dksL_law_64 12 rfl rfl)
theorem dL_law_1702 : decode cL_law 1702 = .ok (.iaload, 1) := dk_46 (dk_at dksL_law_64 13 rfl rfl)
theorem dL_law_1703 : decode cL_law 1703 = .ok (.invokevirtual 239, 3) := dk_182 0 239 (dk_at dksL_law_64 14 rfl rfl)
theorem dL_law_1706 : decode cL_law 1706 = .ok (.istore 7, 2) := dk_54 7 (dk_at dksL_law_64 17 rfl rfl)
theorem dL_law_1708 : decode cL_law 1708 = .ok (.aload_n 2, 1) := dk_44 (dk_at dksL_law_64 19 rfl rfl)
theorem dL_law_1709 : decode cL_law 1709 = .ok (.invokevirtual 138, 3) := dk_182 0 138 (dk_at dksL_law_64 20 rfl rfl)
theorem dL_law_1712 : decode cL_law 1712 = .ok (.iload 6, 2) := dk_21 6 (dk_at dksL_law_65 0 rfl rfl)
theorem dL_law_1714 : decode cL_law 1714 = .ok (.if_icmp .eq 5, 3) := dk_159 0 5 (dk_at dksL_law_65 2 rfl rfl)
theorem dL_law_1717 : decode cL_law 1717 = .ok (.iconst 0, 1) := dk_3 (dk_at dksL_law_65 5 rfl rfl)
theorem dL_law_1718 : decode cL_law 1718 = .ok (.ireturn, 1) := dk_172 (dk_at dksL_law_65 6 rfl rfl)
theorem dL_law_1719 : decode cL_law 1719 = .ok (.iload 6, 2) := dk_21 6 (dk_at dksL_law_65 7 rfl rfl)
theorem dL_law_1721 : decode cL_law 1721 = .ok (.ifCond .ne 15, 3) := dk_154 0 15 (dk_at dksL_law_65 9 rfl rfl)
theorem dL_law_1724 : decode cL_law 1724 = .ok (.aload_n 3, 1) := dk_45 (dk_at dksL_law_65 12 rfl rfl)
theorem dL_law_1725 : decode cL_law 1725 = .ok (.iconst 0, 1) := dk_3 (dk_at dksL_law_65 13 rfl rfl)
theorem dL_law_1726 : decode cL_law 1726 = .ok (.laload, 1) := dk_47 (dk_at dksL_law_65 14 rfl rfl)
theorem dL_law_1727 : decode cL_law 1727 = .ok (.iload 7, 2) := dk_21 7 (dk_at dksL_law_65 15 rfl rfl)
theorem dL_law_1729 : decode cL_law 1729 = .ok (.i2l, 1) := dk_133 (dk_at dksL_law_65 17 rfl rfl)
theorem dL_law_1730 : decode cL_law 1730 = .ok (.lcmp, 1) := dk_148 (dk_at dksL_law_65 18 rfl rfl)
theorem dL_law_1731 : decode cL_law 1731 = .ok (.ifCond .eq 5, 3) := dk_153 0 5 (dk_at dksL_law_65 19 rfl rfl)
theorem dL_law_1734 : decode cL_law 1734 = .ok (.iconst 0, 1) := dk_3 (dk_at dksL_law_65 22 rfl rfl)
theorem dL_law_1735 : decode cL_law 1735 = .ok (.ireturn, 1) := dk_172 (dk_at dksL_law_65 23 rfl rfl)
theorem dL_law_1736 : decode cL_law 1736 = .ok (.goto 668, 3) := dk_167 2 156 (dk_at dksL_law_66 0 rfl rfl)
theorem dL_law_1739 : decode cL_law 1739 = .ok (.aload_n 1, 1) := dk_43 (dk_at dksL_law_66 3 rfl rfl)
theorem dL_law_1740 : decode cL_law 1740 = .ok (.invokevirtual 240, 3) := dk_182 0 240 (dk_at dksL_law_66 4 rfl rfl)
theorem dL_law_1743 : decode cL_law 1743 = .ok (.aload_n 2, 1) := dk_44 (dk_at dksL_law_66 7 rfl rfl)
theorem dL_law_1744 : decode cL_law 1744 = .ok (.invokevirtual 243, 3) := dk_182 0 243 (dk_at dksL_law_66 8 rfl rfl)
theorem dL_law_1747 : decode cL_law 1747 = .ok (.if_icmp .eq 657, 3) := dk_159 2 145 (dk_at dksL_law_66 11 rfl rfl)
theorem dL_law_1750 : decode cL_law 1750 = .ok (.iconst 0, 1) := dk_3 (dk_at dksL_law_66 14 rfl rfl)
theorem dL_law_1751 : decode cL_law 1751 = .ok (.ireturn, 1) := dk_172 (dk_at dksL_law_66 15 rfl rfl)
theorem dL_law_1752 : decode cL_law 1752 = .ok (.aload_n 1, 1) := dk_43 (dk_at dksL_law_66 16 rfl rfl)
theorem dL_law_1753 : decode cL_law 1753 = .ok (.invokevirtual 244, 3) := dk_182 0 244 (dk_at dksL_law_66 17 rfl rfl)
theorem dL_law_1756 : decode cL_law 1756 = .ok (.aload_n 2, 1) := dk_44 (dk_at dksL_law_66 20 rfl rfl)
theorem dL_law_1757 : decode cL_law 1757 = .ok (.invokevirtual 247, 3) := dk_182 0 247 (dk_at dksL_law_66 21 rfl rfl)
theorem dL_law_1760 : decode cL_law 1760 = .ok (.if_icmp .eq 644, 3) := dk_159 2 132 (dk_at dksL_law_67 0 rfl rfl)
theorem dL_law_1763 : decode cL_law 1763 = .ok (.iconst 0, 1) := dk_3 (dk_at dksL_law_67 3 rfl rfl)
theorem dL_law_1764 : decode cL_law 1764 = .ok (.ireturn, 1) := dk_172 (dk_at dksL_law_67 4 rfl rfl)
theorem dL_law_1765 : decode cL_law 1765 = .ok (.aload_n 1, 1) := dk_43 (dk_at dksL_law_67 5 rfl rfl)
theorem dL_law_1766 : decode cL_law 1766 = .ok (.invokevirtual 248, 3) := dk_182 0 248 (dk_at dksL_law_67 6 rfl rfl)
theorem dL_law_1769 : decode cL_law 1769 = .ok (.aload_n 2, 1) := dk_44 (dk_at dksL_law_67 9 rfl rfl)
theorem dL_law_1770 : decode cL_law 1770 = .ok (.invokevirtual 251, 3) := dk_182 0 251 (dk_at dksL_law_67 10 rfl rfl)
theorem dL_law_1773 : decode cL_law 1773 = .ok (.if_icmp .eq 631, 3) := dk_159 2 119 (dk_at dksL_law_67 13 rfl rfl)
theorem dL_law_1776 : decode cL_law 1776 = .ok (.iconst 0, 1) := dk_3 (dk_at dksL_law_67 16 rfl rfl)
theorem dL_law_1777 : decode cL_law 1777 = .ok (.ireturn, 1) := dk_172 (dk_at dksL_law_67 17 rfl rfl)
theorem dL_law_1778 : decode cL_law 1778 = .ok (.aload_n 1, 1) := dk_43 (dk_at dksL_law_67 18 rfl rfl)
theorem dL_law_1779 : decode cL_law 1779 = .ok (.invokevirtual 252, 3) := dk_182 0 252 (dk_at dksL_law_67 19 rfl rfl)
theorem dL_law_1782 : decode cL_law 1782 = .ok (.aload_n 2, 1) := dk_44 (dk_at dksL_law_67 22 rfl rfl)
theorem dL_law_1783 : decode cL_law 1783 = .ok (.invokevirtual 255, 3) := dk_182 0 255 (dk_at dksL_law_68 0 rfl rfl)
theorem dL_law_1786 : decode cL_law 1786 = .ok (.if_icmp .eq 618, 3) := dk_159 2 106 (dk_at dksL_law_68 3 rfl rfl)
theorem dL_law_1789 : decode cL_law 1789 = .ok (.iconst 0, 1) := dk_3 (dk_at dksL_law_68 6 rfl rfl)
theorem dL_law_1790 : decode cL_law 1790 = .ok (.ireturn, 1) := dk_172 (dk_at dksL_law_68 7 rfl rfl)
theorem dL_law_1791 : decode cL_law 1791 = .ok (.aload_n 1, 1) := dk_43 (dk_at dksL_law_68 8 rfl rfl)
theorem dL_law_1792 : decode cL_law 1792 = .ok (.invokevirtual 256, 3) := dk_182 1 0 (dk_at dksL_law_68 9 rfl rfl)
theorem dL_law_1795 : decode cL_law 1795 = .ok (.aload_n 2, 1) := dk_44 (dk_at dksL_law_68 12 rfl rfl)
theorem dL_law_1796 : decode cL_law 1796 = .ok (.invokevirtual 259, 3) := dk_182 1 3 (dk_at dksL_law_68 13 rfl rfl)
theorem dL_law_1799 : decode cL_law 1799 = .ok (.if_icmp .eq 605, 3) := dk_159 2 93 (dk_at dksL_law_68 16 rfl rfl)
theorem dL_law_1802 : decode cL_law 1802 = .ok (.iconst 0, 1) := dk_3 (dk_at dksL_law_68 19 rfl rfl)
theorem dL_law_1803 : decode cL_law 1803 = .ok (.ireturn, 1) := dk_172 (dk_at dksL_law_68 20 rfl rfl)
theorem dL_law_1804 : decode cL_law 1804 = .ok (.aload_n 1, 1) := dk_43 (dk_at dksL_law_68 21 rfl rfl)
theorem dL_law_1805 : decode cL_law 1805 = .ok (.invokevirtual 260, 3) := dk_182 1 4 (dk_at dksL_law_69 0 rfl rfl)
theorem dL_law_1808 : decode cL_law 1808 = .ok (.aload_n 2, 1) := dk_44 (dk_at dksL_law_69 3 rfl rfl)
theorem dL_law_1809 : decode cL_law 1809 = .ok (.invokevirtual 263, 3) := dk_182 1 7 (dk_at dksL_law_69 4 rfl rfl)
theorem dL_law_1812 : decode cL_law 1812 = .ok (.if_icmp .eq 592, 3) := dk_159 2 80 (dk_at dksL_law_69 7 rfl rfl)
theorem dL_law_1815 : decode cL_law 1815 = .ok (.iconst 0, 1) := dk_3 (dk_at dksL_law_69 10 rfl rfl)
theorem dL_law_1816 : decode cL_law 1816 = .ok (.ireturn, 1) := dk_172 (dk_at dksL_law_69 11 rfl rfl)
theorem dL_law_1817 : decode cL_law 1817 = .ok (.aload_n 1, 1) := dk_43 (dk_at dksL_law_69 12 rfl rfl)
theorem dL_law_1818 : decode cL_law 1818 = .ok (.invokevirtual 264, 3) := dk_182 1 8 (dk_at dksL_law_69 13 rfl rfl)
theorem dL_law_1821 : decode cL_law 1821 = .ok (.aload_n 2, 1) := dk_44 (dk_at dksL_law_69 16 rfl rfl)
theorem dL_law_1822 : decode cL_law 1822 = .ok (.invokevirtual 268, 3) := dk_182 1 12 (dk_at dksL_law_69 17 rfl rfl)
theorem dL_law_1825 : decode cL_law 1825 = .ok (.lcmp, 1) := dk_148 (dk_at dksL_law_69 20 rfl rfl)
theorem dL_law_1826 : decode cL_law 1826 = .ok (.ifCond .eq 578, 3) := dk_153 2 66 (dk_at dksL_law_69 21 rfl rfl)
theorem dL_law_1829 : decode cL_law 1829 = .ok (.iconst 0, 1) := dk_3 (dk_at dksL_law_70 0 rfl rfl)
theorem dL_law_1830 : decode cL_law 1830 = .ok (.ireturn, 1) := dk_172 (dk_at dksL_law_70 1 rfl rfl)
theorem dL_law_1831 : decode cL_law 1831 = .ok (.aload_n 1, 1) := dk_43 (dk_at dksL_law_70 2 rfl rfl)
theorem dL_law_1832 : decode cL_law 1832 = .ok (.invokevirtual 269, 3) := dk_182 1 13 (dk_at dksL_law_70 3 rfl rfl)
theorem dL_law_1835 : decode cL_law 1835 = .ok (.aload_n 2, 1) := dk_44 (dk_at dksL_law_70 6 rfl rfl)
theorem dL_law_1836 : decode cL_law 1836 = .ok (.invokevirtual 272, 3) := dk_182 1 16 (dk_at dksL_law_70 7 rfl rfl)
theorem dL_law_1839 : decode cL_law 1839 = .ok (.if_icmp .eq 565, 3) := dk_159 2 53 (dk_at dksL_law_70 10 rfl rfl)
theorem dL_law_1842 : decode cL_law 1842 = .ok (.iconst 0, 1) := dk_3 (dk_at dksL_law_70 13 rfl rfl)
theorem dL_law_1843 : decode cL_law 1843 = .ok (.ireturn, 1) := dk_172 (dk_at dksL_law_70 14 rfl rfl)
theorem dL_law_1844 : decode cL_law 1844 = .ok (.aload_n 1, 1) := dk_43 (dk_at dksL_law_70 15 rfl rfl)
theorem dL_law_1845 : decode cL_law 1845 = .ok (.aload 4, 2) := dk_25 4 (dk_at dksL_law_70 16 rfl rfl)
theorem dL_law_1847 : decode cL_law 1847 = .ok (.invokestatic 273, 3) := dk_184 1 17 (dk_at dksL_law_70 18 rfl rfl)
theorem dL_law_1850 : decode cL_law 1850 = .ok (.istore 6, 2) := dk_54 6 (dk_at dksL_law_70 21 rfl rfl)
theorem dL_law_1852 : decode cL_law 1852 = .ok (.aload_n 2, 1) := dk_44 (dk_at dksL_law_70 23 rfl rfl)
theorem dL_law_1853 : decode cL_law 1853 = .ok (.invokevirtual 276, 3) := dk_182 1 20 (dk_at dksL_law_71 0 rfl rfl)
theorem dL_law_1856 : decode cL_law 1856 = .ok (.dstore 7, 2) := dk_57 7 (dk_at dksL_law_71 3 rfl rfl)
theorem dL_law_1858 : decode cL_law 1858 = .ok (.aload_n 2, 1) := dk_44 (dk_at dksL_law_71 5 rfl rfl)
theorem dL_law_1859 : decode cL_law 1859 = .ok (.invokevirtual 138, 3) := dk_182 0 138 (dk_at dksL_law_71 6 rfl rfl)
theorem dL_law_1862 : decode cL_law 1862 = .ok (.iload 6, 2) := dk_21 6 (dk_at dksL_law_71 9 rfl rfl)
theorem dL_law_1864 : decode cL_law 1864 = .ok (.if_icmp .eq 5, 3) := dk_159 0 5 (dk_at dksL_law_71 11 rfl rfl)
theorem dL_law_1867 : decode cL_law 1867 = .ok (.iconst 0, 1) := dk_3 (dk_at dksL_law_71 14 rfl rfl)
theorem dL_law_1868 : decode cL_law 1868 = .ok (.ireturn, 1) := dk_172 (dk_at dksL_law_71 15 rfl rfl)
theorem dL_law_1869 : decode cL_law 1869 = .ok (.iload 6, 2) := dk_21 6 (dk_at dksL_law_71 16 rfl rfl)
theorem dL_law_1871 : decode cL_law 1871 = .ok (.ifCond .ne 35, 3) := dk_154 0 35 (dk_at dksL_law_71 18 rfl rfl)
theorem dL_law_1874 : decode cL_law 1874 = .ok (.aload 4, 2) := dk_25 4 (dk_at dksL_law_71 21 rfl rfl)
theorem dL_law_1876 : decode cL_law 1876 = .ok (.iconst 0, 1) := dk_3 (dk_at dksL_law_71 23 rfl rfl)
theorem dL_law_1877 : decode cL_law 1877 = .ok (.daload, 1) := dk_49 (dk_at dksL_law_72 0 rfl rfl)
theorem dL_law_1878 : decode cL_law 1878 = .ok (.dload 7, 2) := dk_24 7 (dk_at dksL_law_72 1 rfl rfl)
theorem dL_law_1880 : decode cL_law 1880 = .ok (.dcmp .l, 1) := dk_151 (dk_at dksL_law_72 3 rfl rfl)
theorem dL_law_1881 : decode cL_law 1881 = .ok (.ifCond .eq 25, 3) := dk_153 0 25 (dk_at dksL_law_72 4 rfl rfl)
theorem dL_law_1884 : decode cL_law 1884 = .ok (.aload 4, 2) := dk_25 4 (dk_at dksL_law_72 7 rfl rfl)
theorem dL_law_1886 : decode cL_law 1886 = .ok (.iconst 0, 1) := dk_3 (dk_at dksL_law_72 9 rfl rfl)
theorem dL_law_1887 : decode cL_law 1887 = .ok (.daload, 1) := dk_49 (dk_at dksL_law_72 10 rfl rfl)
theorem dL_law_1888 : decode cL_law 1888 = .ok (.aload 4, 2) := dk_25 4 (dk_at dksL_law_72 11 rfl rfl)
theorem dL_law_1890 : decode cL_law 1890 = .ok (.iconst 0, 1) := dk_3 (dk_at dksL_law_72 13 rfl rfl)
theorem dL_law_1891 : decode cL_law 1891 = .ok (.daload, 1) := dk_49 (dk_at dksL_law_72 14 rfl rfl)
theorem dL_law_1892 : decode cL_law 1892 = .ok (.dcmp .l, 1) := dk_151 (dk_at dksL_law_72 15 rfl rfl)
theorem dL_law_1893 : decode cL_law 1893 = .ok (.ifCond .eq 11, 3) := dk_153 0 11 (dk_at dksL_law_72 16 rfl rfl)
theorem dL_law_1896 : decode cL_law 1896 = .ok (.dload 7, 2) := dk_24 7 (dk_at dksL_law_72 19 rfl rfl)
theorem dL_law_1898 : decode cL_law 1898 = .ok (.dload 7, 2) := dk_24 7 (dk_at dksL_law_72 21 rfl rfl)
theorem dL_law_1900 : decode cL_law 1900 = .ok (.dcmp .l, 1) := dk_151 (dk_at dksL_law_72 23 rfl rfl)
theorem dL_law_1901 : decode cL_law 1901 = .ok (.ifCond .ne 5, 3) := dk_154 0 5 (dk_at dksL_law_73 0 rfl rfl)
theorem dL_law_1904 : decode cL_law 1904 = .ok (.iconst 0, 1) := dk_3 (dk_at dksL_law_73 3 rfl rfl)
theorem dL_law_1905 : decode cL_law 1905 = .ok (.ireturn, 1) := dk_172 (dk_at dksL_law_73 4 rfl rfl)
theorem dL_law_1906 : decode cL_law 1906 = .ok (.goto 498, 3) := dk_167 1 242 (dk_at dksL_law_73 5 rfl rfl)
theorem dL_law_1909 : decode cL_law 1909 = .ok (.aload_n 1, 1) := dk_43 (dk_at dksL_law_73 8 rfl rfl)
theorem dL_law_1910 : decode cL_law 1910 = .ok (.aload 4, 2) := dk_25 4 (dk_at dksL_law_73 9 rfl rfl)
theorem dL_law_1912 : decode cL_law 1912 = .ok (.invokestatic 277, 3) := dk_184 1 21 (dk_at dksL_law_73 11 rfl rfl)
theorem dL_law_1915 : decode cL_law 1915 = .ok (.istore 6, 2) := dk_54 6 (dk_at dksL_law_73 14 rfl rfl)
theorem dL_law_1917 : decode cL_law 1917 = .ok (.aload_n 2, 1) := dk_44 (dk_at dksL_law_73 16 rfl rfl)
theorem dL_law_1918 : decode cL_law 1918 = .ok (.invokevirtual 279, 3) := dk_182 1 23 (dk_at dksL_law_73 17 rfl rfl)
theorem dL_law_1921 : decode cL_law 1921 = .ok (.fstore 7, 2) := dk_56 7 (dk_at dksL_law_73 20 rfl rfl)
theorem dL_law_1923 : decode cL_law 1923 = .ok (.aload_n 2, 1) := dk_44 (dk_at dksL_law_73 22 rfl rfl)
theorem dL_law_1924 : decode cL_law 1924 = .ok (.invokevirtual 138, 3) := dk_182 0 138 (dk_at dksL_law_74 0 rfl rfl)
theorem dL_law_1927 : decode cL_law 1927 = .ok (.iload 6, 2) := dk_21 6 (dk_at dksL_law_74 3 rfl rfl)
theorem dL_law_1929 : decode cL_law 1929 = .ok (.if_icmp .eq 5, 3) := dk_159 0 5 (dk_at dksL_law_74 5 rfl rfl)
theorem dL_law_1932 : decode cL_law 1932 = .ok (.iconst 0, 1) := dk_3 (dk_at dksL_law_74 8 rfl rfl)
theorem dL_law_1933 : decode cL_law 1933 = .ok (.ireturn, 1) := dk_172 (dk_at dksL_law_74 9 rfl rfl)
theorem dL_law_1934 : decode cL_law 1934 = .ok (.iload 6, 2) := dk_21 6 (dk_at dksL_law_74 10 rfl rfl)
theorem dL_law_1936 : decode cL_law 1936 = .ok (.ifCond .ne 36, 3) := dk_154 0 36 (dk_at dksL_law_74 12 rfl rfl)
theorem dL_law_1939 : decode cL_law 1939 = .ok (.aload 4, 2) := dk_25 4 (dk_at dksL_law_74 15 rfl rfl)
theorem dL_law_1941 : decode cL_law 1941 = .ok (.iconst 0, 1) := dk_3 (dk_at dksL_law_74 17 rfl rfl)
theorem dL_law_1942 : decode cL_law 1942 = .ok (.daload, 1) := dk_49 (dk_at dksL_law_74 18 rfl rfl)
theorem dL_law_1943 : decode cL_law 1943 = .ok (.fload 7, 2) := dk_23 7 (dk_at dksL_law_74 19 rfl rfl)
theorem dL_law_1945 : decode cL_law 1945 = .ok (.f2d, 1) := dk_141 (dk_at dksL_law_74 21 rfl rfl)
theorem dL_law_1946 : decode cL_law 1946 = .ok (.dcmp .l, 1) := dk_151 (dk_at dksL_law_74 22 rfl rfl)
theorem dL_law_1947 : decode cL_law 1947 = .ok (.ifCond .eq 25, 3) := dk_153 0 25 (dk_at dksL_law_75 0 rfl rfl)
theorem dL_law_1950 : decode cL_law 1950 = .ok (.aload 4, 2) := dk_25 4 (dk_at dksL_law_75 3 rfl rfl)
theorem dL_law_1952 : decode cL_law 1952 = .ok (.iconst 0, 1) := dk_3 (dk_at dksL_law_75 5 rfl rfl)
theorem dL_law_1953 : decode cL_law 1953 = .ok (.daload, 1) := dk_49 (dk_at dksL_law_75 6 rfl rfl)
theorem dL_law_1954 : decode cL_law 1954 = .ok (.aload 4, 2) := dk_25 4 (dk_at dksL_law_75 7 rfl rfl)
theorem dL_law_1956 : decode cL_law 1956 = .ok (.iconst 0, 1) := dk_3 (dk_at dksL_law_75 9 rfl rfl)
theorem dL_law_1957 : decode cL_law 1957 = .ok (.daload, 1) := dk_49 (dk_at dksL_law_75 10 rfl rfl)
theorem dL_law_1958 : decode cL_law 1958 = .ok (.dcmp .l, 1) := dk_151 (dk_at dksL_law_75 11 rfl rfl)
theorem dL_law_1959 : decode cL_law 1959 = .ok (.ifCond .eq 11, 3) := dk_153 0 11 (dk_at dksL_law_75 12 rfl rfl)
theorem dL_law_1962 : decode cL_law 1962 = .ok (.fload 7, 2) := dk_23 7 (dk_at dksL_law_75 15 rfl rfl)
theorem dL_law_1964 : decode cL_law 1964 = .ok (.fload 7, 2) := dk_23 7 (dk_at dksL_law_75 17 rfl rfl)
theorem dL_law_1966 : decode cL_law 1966 = .ok (.fcmp .l, 1) := dk_149 (dk_at dksL_law_75 19 rfl rfl)
theorem dL_law_1967 : decode cL_law 1967 = .ok (.ifCond .ne 5, 3) := dk_154 0 5 (dk_at dksL_law_75 20 rfl rfl)
theorem dL_law_1970 : decode cL_law 1970 = .ok (.iconst 0, 1) := dk_3 (dk_at dksL_law_75 23 rfl rfl)
theorem dL_law_1971 : decode cL_law 1971 = .ok (.ireturn, 1) := dk_172 (dk_at dksL_law_76 0 rfl rfl)
theorem dL_law_1972 : decode cL_law 1972 = .ok (.goto 432, 3) := dk_167 1 176 (dk_at dksL_law_76 1 rfl rfl)
theorem dL_law_1975 : decode cL_law 1975 = .ok (.aload_n 1, 1) := dk_43 (dk_at dksL_law_76 4 rfl rfl)
theorem dL_law_1976 : decode cL_law 1976 = .ok (.aload_n 0, 1) := dk_42 (dk_at dksL_law_76 5 rfl rfl)
theorem dL_law_1977 : decode cL_law 1977 = .ok (.iload 5, 2) := dk_21 5 (dk_at dksL_law_76 6 rfl rfl)
theorem dL_law_1979 : decode cL_law 1979 = .ok (.iconst 1, 1) := dk_4 (dk_at dksL_law_76 8 rfl rfl)
theorem dL_law_1980 : decode cL_law 1980 = .ok (.iadd, 1) := dk_96 (dk_at dksL_law_76 9 rfl rfl)
theorem dL_law_1981 : decode cL_law 1981 = .ok (.iaload, 1) := dk_46 (dk_at dksL_law_76 10 rfl rfl)
theorem dL_law_1982 : decode cL_law 1982 = .ok (.aload_n 3, 1) := dk_45 (dk_at dksL_law_76 11 rfl rfl)
theorem dL_law_1983 : decode cL_law 1983 = .ok (.invokestatic 280, 3) := dk_184 1 24 (dk_at dksL_law_76 12 rfl rfl)
theorem dL_law_1986 : decode cL_law 1986 = .ok (.istore 6, 2) := dk_54 6 (dk_at dksL_law_76 15 rfl rfl)
theorem dL_law_1988 : decode cL_law 1988 = .ok (.aload_n 2, 1) := dk_44 (dk_at dksL_law_76 17 rfl rfl)
theorem dL_law_1989 : decode cL_law 1989 = .ok (.aload_n 0, 1) := dk_42 (dk_at dksL_law_76 18 rfl rfl)
theorem dL_law_1990 : decode cL_law 1990 = .ok (.iload 5, 2) := dk_21 5 (dk_at dksL_law_76 19 rfl rfl)
theorem dL_law_1992 : decode cL_law 1992 = .ok (.iconst 1, 1) := dk_4 (dk_at dksL_law_76 21 rfl rfl)
theorem dL_law_1993 : decode cL_law 1993 = .ok (.iadd, 1) := dk_96 (dk_at dksL_law_76 22 rfl rfl)
theorem dL_law_1994 : decode cL_law 1994 = .ok (.iaload, 1) := dk_46 (dk_at dksL_law_76 23 rfl rfl)
theorem dL_law_1995 : decode cL_law 1995 = .ok (.invokevirtual 282, 3) := dk_182 1 26 (dk_at dksL_law_77 0 rfl rfl)
theorem dL_law_1998 : decode cL_law 1998 = .ok (.istore 7, 2) := dk_54 7 (dk_at dksL_law_77 3 rfl rfl)
theorem dL_law_2000 : decode cL_law 2000 = .ok (.aload_n 2, 1) := dk_44 (dk_at dksL_law_77 5 rfl rfl)
theorem dL_law_2001 : decode cL_law 2001 = .ok (.invokevirtual 138, 3) := dk_182 0 138 (dk_at dksL_law_77 6 rfl rfl)
theorem dL_law_2004 : decode cL_law 2004 = .ok (.iload 6, 2) := dk_21 6 (dk_at dksL_law_77 9 rfl rfl)
theorem dL_law_2006 : decode cL_law 2006 = .ok (.if_icmp .eq 5, 3) := dk_159 0 5 (dk_at dksL_law_77 11 rfl rfl)
theorem dL_law_2009 : decode cL_law 2009 = .ok (.iconst 0, 1) := dk_3 (dk_at dksL_law_77 14 rfl rfl)
theorem dL_law_2010 : decode cL_law 2010 = .ok (.ireturn, 1) := dk_172 (dk_at dksL_law_77 15 rfl rfl)
theorem dL_law_2011 : decode cL_law 2011 = .ok (.iload 6, 2) := dk_21 6 (dk_at dksL_law_77 16 rfl rfl)
theorem dL_law_2013 : decode cL_law 2013 = .ok (.ifCond .ne 15, 3) := dk_154 0 15 (dk_at dksL_law_77 18 rfl rfl)
theorem dL_law_2016 : decode cL_law 2016 = .ok (.aload_n 3, 1) := dk_45 (dk_at dksL_law_77 21 rfl rfl)
theorem dL_law_2017 : decode cL_law 2017 = .ok (.iconst 0, 1) := dk_3 (dk_at dksL_law_77 22 rfl rfl)
theorem dL_law_2018 : decode cL_law 2018 = .ok (.laload, 1) := dk_47 (dk_at dksL_law_77 23 rfl rfl)
theorem dL_law_2019 : decode cL_law 2019 = .ok (.iload 7, 2) := dk_21 7 (dk_at dksL_law_78 0 rfl rfl)
theorem dL_law_2021 : decode cL_law 2021 = .ok (.i2l, 1) := dk_133 (dk_at dksL_law_78 2 rfl rfl)
theorem dL_law_2022 : decode cL_law 2022 = .ok (.lcmp, 1) := dk_148 (dk_at dksL_law_78 3 rfl rfl)
theorem dL_law_2023 : decode cL_law 2023 = .ok (.ifCond .eq 5, 3) := dk_153 0 5 (dk_at dksL_law_78 4 rfl rfl)
theorem dL_law_2026 : decode cL_law 2026 = .ok (.iconst 0, 1) := dk_3 (dk_at dksL_law_78 7 rfl rfl)
theorem dL_law_2027 : decode cL_law 2027 = .ok (.ireturn, 1) := dk_172 (dk_at dksL_law_78 8 rfl rfl)
theorem dL_law_2028 : decode cL_law 2028 = .ok (.goto 376, 3) := dk_167 1 120 (dk_at dksL_law_78 9 rfl rfl)
theorem dL_law_2031 : decode cL_law 2031 = .ok (.aload_n 1, 1) := dk_43 (dk_at dksL_law_78 12 rfl rfl)
theorem dL_law_2032 : decode cL_law 2032 = .ok (.invokevirtual 283, 3) := dk_182 1 27 (dk_at dksL_law_78 13 rfl rfl)
theorem dL_law_2035 : decode cL_law 2035 = .ok (.aload_n 2, 1) := dk_44 (dk_at dksL_law_78 16 rfl rfl)
theorem dL_law_2036 : decode cL_law 2036 = .ok (.invokevirtual 286, 3) := dk_182 1 30 (dk_at dksL_law_78 17 rfl rfl)
theorem dL_law_2039 : decode cL_law 2039 = .ok (.if_icmp .eq 365, 3) := dk_159 1 109 (dk_at dksL_law_78 20 rfl rfl)
theorem dL_law_2042 : decode cL_law 2042 = .ok (.iconst 0, 1) := dk_3 (dk_at dksL_law_78 23 rfl rfl)
theorem dL_law_2043 : decode cL_law 2043 = .ok (.ireturn, 1) := dk_172 (dk_at dksL_law_79 0 rfl rfl)
theorem dL_law_2044 : decode cL_law 2044 = .ok (.aload_n 1, 1) := dk_43 (dk_at dksL_law_79 1 rfl rfl)
theorem dL_law_2045 : decode cL_law 2045 = .ok (.aload_n 0, 1) := dk_42 (dk_at dksL_law_79 2 rfl rfl)
theorem dL_law_2046 : decode cL_law 2046 = .ok (.iload 5, 2) := dk_21 5 (dk_at dksL_law_79 3 rfl rfl)
theorem dL_law_2048 : decode cL_law 2048 = .ok (.iconst 1, 1) := dk_4 (dk_at dksL_law_79 5 rfl rfl)
theorem dL_law_2049 : decode cL_law 2049 = .ok (.iadd, 1) := dk_96 (dk_at dksL_law_79 6 rfl rfl)
theorem dL_law_2050 : decode cL_law 2050 = .ok (.iaload, 1) := dk_46 (dk_at dksL_law_79 7 rfl rfl)
theorem dL_law_2051 : decode cL_law 2051 = .ok (.aload_n 3, 1) := dk_45 (dk_at dksL_law_79 8 rfl rfl)
theorem dL_law_2052 : decode cL_law 2052 = .ok (.invokestatic 287, 3) := dk_184 1 31 (dk_at dksL_law_79 9 rfl rfl)
theorem dL_law_2055 : decode cL_law 2055 = .ok (.istore 6, 2) := dk_54 6 (dk_at dksL_law_79 12 rfl rfl)
theorem dL_law_2057 : decode cL_law 2057 = .ok (.aload_n 2, 1) := dk_44 (dk_at dksL_law_79 14 rfl rfl)
theorem dL_law_2058 : decode cL_law 2058 = .ok (.aload_n 0, 1) := dk_42 (dk_at dksL_law_79 15 rfl rfl)
theorem dL_law_2059 : decode cL_law 2059 = .ok (.iload 5, 2) := dk_21 5 (dk_at dksL_law_79 16 rfl rfl)
theorem dL_law_2061 : decode cL_law 2061 = .ok (.iconst 1, 1) := dk_4 (dk_at dksL_law_79 18 rfl rfl)
theorem dL_law_2062 : decode cL_law 2062 = .ok (.iadd, 1) := dk_96 (dk_at dksL_law_79 19 rfl rfl)
theorem dL_law_2063 : decode cL_law 2063 = .ok (.iaload, 1) := dk_46 (dk_at dksL_law_79 20 rfl rfl)
theorem dL_law_2064 : decode cL_law 2064 = .ok (.invokevirtual 289, 3) := dk_182 1 33 (dk_at dksL_law_79 21 rfl rfl)
theorem dL_law_2067 : decode cL_law 2067 = .ok (.istore 7, 2) := dk_54 7 (dk_at dksL_law_80 0 rfl rfl)
theorem dL_law_2069 : decode cL_law 2069 = .ok (.aload_n 2, 1) := dk_44 (dk_at dksL_law_80 2 rfl rfl)
theorem dL_law_2070 : decode cL_law 2070 = .ok (.invokevirtual 138, 3) := dk_182 0 138 (dk_at dksL_law_80 3 rfl rfl)
theorem dL_law_2073 : decode cL_law 2073 = .ok (.iload 6, 2) := dk_21 6 (dk_at dksL_law_80 6 rfl rfl)
theorem dL_law_2075 : decode cL_law 2075 = .ok (.if_icmp .eq 5, 3) := dk_159 0 5 (dk_at dksL_law_80 8 rfl rfl)
theorem dL_law_2078 : decode cL_law 2078 = .ok (.iconst 0, 1) := dk_3 (dk_at dksL_law_80 11 rfl rfl)
theorem dL_law_2079 : decode cL_law 2079 = .ok (.ireturn, 1) := dk_172 (dk_at dksL_law_80 12 rfl rfl)
theorem dL_law_2080 : decode cL_law 2080 = .ok (.iload 6, 2) := dk_21 6 (dk_at dksL_law_80 13 rfl rfl)
theorem dL_law_2082 : decode cL_law 2082 = .ok (.ifCond .ne 15, 3) := dk_154 0 15 (dk_at dksL_law_80 15 rfl rfl)
theorem dL_law_2085 : decode cL_law 2085 = .ok (.aload_n 3, 1) := dk_45 (dk_at dksL_law_80 18 rfl rfl)
theorem dL_law_2086 : decode cL_law 2086 = .ok (.iconst 0, 1) := dk_3 (dk_at dksL_law_80 19 rfl rfl)
theorem dL_law_2087 : decode cL_law 2087 = .ok (.laload, 1) := dk_47 (dk_at dksL_law_80 20 rfl rfl)
theorem dL_law_2088 : decode cL_law 2088 = .ok (.iload 7, 2) := dk_21 7 (dk_at dksL_law_80 21 rfl rfl)
theorem dL_law_2090 : decode cL_law 2090 = .ok (.i2l, 1) := dk_133 (dk_at dksL_law_80 23 rfl rfl)
theorem dL_law_2091 : decode cL_law 2091 = .ok (.lcmp, 1) := dk_148 (dk_at dksL_law_81 0 rfl rfl)
theorem dL_law_2092 : decode cL_law 2092 = .ok (.ifCond .eq 5, 3) := dk_153 0 5 (dk_at dksL_law_81 1 rfl rfl)
theorem dL_law_2095 : decode cL_law 2095 = .ok (.iconst 0, 1) := dk_3 (dk_at dksL_law_81 4 rfl rfl)
theorem dL_law_2096 : decode cL_law 2096 = .ok (.ireturn, 1) := dk_172 (dk_at dksL_law_81 5 rfl rfl)
theorem dL_law_2097 : decode cL_law 2097 = .ok (.goto 307, 3) := dk_167 1 51 (dk_at dksL_law_81 6 rfl rfl)
theorem dL_law_2100 : decode cL_law 2100 = .ok (.aload_n 1, 1) := dk_43 (dk_at dksL_law_81 9 rfl rfl)
theorem dL_law_2101 : decode cL_law 2101 = .ok (.invokevirtual 290, 3) := dk_182 1 34 (dk_at dksL_law_81 10 rfl rfl)
theorem dL_law_2104 : decode cL_law 2104 = .ok (.aload_n 2, 1) := dk_44 (dk_at dksL_law_81 13 rfl rfl)
theorem dL_law_2105 : decode cL_law 2105 = .ok (.invokevirtual 294, 3) := dk_182 1 38 (dk_at dksL_law_81 14 rfl rfl)
theorem dL_law_2108 : decode cL_law 2108 = .ok (.if_icmp .eq 296, 3) := dk_159 1 40 (dk_at dksL_law_81 17 rfl rfl)
theorem dL_law_2111 : decode cL_law 2111 = .ok (.iconst 0, 1) := dk_3 (dk_at dksL_law_81 20 rfl rfl)
theorem dL_law_2112 : decode cL_law 2112 = .ok (.ireturn, 1) := dk_172 (dk_at dksL_law_81 21 rfl rfl)
theorem dL_law_2113 : decode cL_law 2113 = .ok (.aload_n 1, 1) := dk_43 (dk_at dksL_law_81 22 rfl rfl)
theorem dL_law_2114 : decode cL_law 2114 = .ok (.aload_n 0, 1) := dk_42 (dk_at dksL_law_81 23 rfl rfl)
theorem dL_law_2115 : decode cL_law 2115 = .ok (.iload 5, 2) := dk_21 5 (dk_at dksL_law_82 0 rfl rfl)
theorem dL_law_2117 : decode cL_law 2117 = .ok (.iconst 1, 1) := dk_4 (dk_at dksL_law_82 2 rfl rfl)
theorem dL_law_2118 : decode cL_law 2118 = .ok (.iadd, 1) := dk_96 (dk_at dksL_law_82 3 rfl rfl)
theorem dL_law_2119 : decode cL_law 2119 = .ok (.iaload, 1) := dk_46 (dk_at dksL_law_82 4 rfl rfl)
theorem dL_law_2120 : decode cL_law 2120 = .ok (.i2c, 1) := dk_146 (dk_at dksL_law_82 5 rfl rfl)
theorem dL_law_2121 : decode cL_law 2121 = .ok (.aload_n 3, 1) := dk_45 (dk_at dksL_law_82 6 rfl rfl)
theorem dL_law_2122 : decode cL_law 2122 = .ok (.invokestatic 295, 3) := dk_184 1 39 (dk_at dksL_law_82 7 rfl rfl)
theorem dL_law_2125 : decode cL_law 2125 = .ok (.istore 6, 2) := dk_54 6 (dk_at dksL_law_82 10 rfl rfl)
theorem dL_law_2127 : decode cL_law 2127 = .ok (.aload_n 2, 1) := dk_44 (dk_at dksL_law_82 12 rfl rfl)
theorem dL_law_2128 : decode cL_law 2128 = .ok (.aload_n 0, 1) := dk_42 (dk_at dksL_law_82 13 rfl rfl)
theorem dL_law_2129 : decode cL_law 2129 = .ok (.iload 5, 2) := dk_21 5 (dk_at dksL_law_82 14 rfl rfl)
theorem dL_law_2131 : decode cL_law 2131 = .ok (.iconst 1, 1) := dk_4 (dk_at dksL_law_82 16 rfl rfl)
theorem dL_law_2132 : decode cL_law 2132 = .ok (.iadd, 1) := dk_96 (dk_at dksL_law_82 17 rfl rfl)
theorem dL_law_2133 : decode cL_law 2133 = .ok (.iaload, 1) := dk_46 (dk_at dksL_law_82 18 rfl rfl)
theorem dL_law_2134 : decode cL_law 2134 = .ok (.i2c, 1) := dk_146 (dk_at dksL_law_82 19 rfl rfl)
theorem dL_law_2135 : decode cL_law 2135 = .ok (.invokevirtual 298, 3) := dk_182 1 42 (dk_at dksL_law_82 20 rfl rfl)
theorem dL_law_2138 : decode cL_law 2138 = .ok (.istore 7, 2) := dk_54 7 (dk_at dksL_law_83 0 rfl rfl)
theorem dL_law_2140 : decode cL_law 2140 = .ok (.aload_n 2, 1) := dk_44 (dk_at dksL_law_83 2 rfl rfl)
theorem dL_law_2141 : decode cL_law 2141 = .ok (.invokevirtual 138, 3) := dk_182 0 138 (dk_at dksL_law_83 3 rfl rfl)
theorem dL_law_2144 : decode cL_law 2144 = .ok (.iload 6, 2) := dk_21 6 (dk_at dksL_law_83 6 rfl rfl)
theorem dL_law_2146 : decode cL_law 2146 = .ok (.if_icmp .eq 5, 3) := dk_159 0 5 (dk_at dksL_law_83 8 rfl rfl)
theorem dL_law_2149 : decode cL_law 2149 = .ok (.iconst 0, 1) := dk_3 (dk_at dksL_law_83 11 rfl rfl)
theorem dL_law_2150 : decode cL_law 2150 = .ok (.ireturn, 1) := dk_172 (dk_at dksL_law_83 12 rfl rfl)
theorem dL_law_2151 : decode cL_law 2151 = .ok (.iload 6, 2) := dk_21 6 (dk_at dksL_law_83 13 rfl rfl)
theorem dL_law_2153 : decode cL_law 2153 = .ok (.ifCond .ne 15, 3) := dk_154 0 15 (dk_at dksL_law_83 15 rfl rfl)
theorem dL_law_2156 : decode cL_law 2156 = .ok (.aload_n 3, 1) := dk_45 (dk_at dksL_law_83 18 rfl rfl)
theorem dL_law_2157 : decode cL_law 2157 = .ok (.iconst 0, 1) := dk_3 (dk_at dksL_law_83 19 rfl rfl)
theorem dL_law_2158 : decode cL_law 2158 = .ok (.laload, 1) := dk_47 (dk_at dksL_law_83 20 rfl rfl)
theorem dL_law_2159 : decode cL_law 2159 = .ok (.iload 7, 2) := dk_21 7 (dk_at dksL_law_83 21 rfl rfl)
theorem dL_law_2161 : decode cL_law 2161 = .ok (.i2l, 1) := dk_133 (dk_at dksL_law_83 23 rfl rfl)
theorem dL_law_2162 : decode cL_law 2162 = .ok (.lcmp, 1) := dk_148 (dk_at dksL_law_84 0 rfl rfl)
theorem dL_law_2163 : decode cL_law 2163 = .ok (.ifCond .eq 5, 3) := dk_153 0 5 (dk_at dksL_law_84 1 rfl rfl)
theorem dL_law_2166 : decode cL_law 2166 = .ok (.iconst 0, 1) := dk_3 (dk_at dksL_law_84 4 rfl rfl)
theorem dL_law_2167 : decode cL_law 2167 = .ok (.ireturn, 1) := dk_172 (dk_at dksL_law_84 5 rfl rfl)
theorem dL_law_2168 : decode cL_law 2168 = .ok (.goto 236, 3) := dk_167 0 236 (dk_at dksL_law_84 6 rfl rfl)
theorem dL_law_2171 : decode cL_law 2171 = .ok (.aload_n 1, 1) := dk_43 (dk_at dksL_law_84 9 rfl rfl)
theorem dL_law_2172 : decode cL_law 2172 = .ok (.aload_n 3, 1) := dk_45 (dk_at dksL_law_84 10 rfl rfl)
theorem dL_law_2173 : decode cL_law 2173 = .ok (.invokestatic 299, 3) := dk_184 1 43 (dk_at dksL_law_84 11 rfl rfl)
theorem dL_law_2176 : decode cL_law 2176 = .ok (.istore 6, 2) := dk_54 6 (dk_at dksL_law_84 14 rfl rfl)
theorem dL_law_2178 : decode cL_law 2178 = .ok (.aload_n 2, 1) := dk_44 (dk_at dksL_law_84 16 rfl rfl)
theorem dL_law_2179 : decode cL_law 2179 = .ok (.invokevirtual 302, 3) := dk_182 1 46 (dk_at dksL_law_84 17 rfl rfl)
theorem dL_law_2182 : decode cL_law 2182 = .ok (.istore 7, 2) := dk_54 7 (dk_at dksL_law_84 20 rfl rfl)
theorem dL_law_2184 : decode cL_law 2184 = .ok (.aload_n 2, 1) := dk_44 (dk_at dksL_law_84 22 rfl rfl)
theorem dL_law_2185 : decode cL_law 2185 = .ok (.invokevirtual 138, 3) := dk_182 0 138 (dk_at dksL_law_85 0 rfl rfl)
theorem dL_law_2188 : decode cL_law 2188 = .ok (.iload 6, 2) := dk_21 6 (dk_at dksL_law_85 3 rfl rfl)
theorem dL_law_2190 : decode cL_law 2190 = .ok (.if_icmp .eq 5, 3) := dk_159 0 5 (dk_at dksL_law_85 5 rfl rfl)
theorem dL_law_2193 : decode cL_law 2193 = .ok (.iconst 0, 1) := dk_3 (dk_at dksL_law_85 8 rfl rfl)
theorem dL_law_2194 : decode cL_law 2194 = .ok (.ireturn, 1) := dk_172 (dk_at dksL_law_85 9 rfl rfl)
theorem dL_law_2195 : decode cL_law 2195 = .ok (.iload 6, 2) := dk_21 6 (dk_at dksL_law_85 10 rfl rfl)
theorem dL_law_2197 : decode cL_law 2197 = .ok (.ifCond .ne 15, 3) := dk_154 0 15 (dk_at dksL_law_85 12 rfl rfl)
theorem dL_law_2200 : decode cL_law 2200 = .ok (.aload_n 3, 1) := dk_45 (dk_at dksL_law_85 15 rfl rfl)
theorem dL_law_2201 : decode cL_law 2201 = .ok (.iconst 0, 1) := dk_3 (dk_at dksL_law_85 16 rfl rfl)
theorem dL_law_2202 : decode cL_law 2202 = .ok (.laload, 1) := dk_47 (dk_at dksL_law_85 17 rfl rfl)
theorem dL_law_2203 : decode cL_law 2203 = .ok (.iload 7, 2) := dk_21 7 (dk_at dksL_law_85 18 rfl rfl)
theorem dL_law_2205 : decode cL_law 2205 = .ok (.i2l, 1) := dk_133 (dk_at dksL_law_85 20 rfl rfl)
theorem dL_law_2206 : decode cL_law 2206 = .ok (.lcmp, 1) := dk_148 (dk_at dksL_law_85 21 rfl rfl)
theorem dL_law_2207 : decode cL_law 2207 = .ok (.ifCond .eq 5, 3) := dk_153 0 5 (dk_at dksL_law_86 0 rfl rfl)
theorem dL_law_2210 : decode cL_law 2210 = .ok (.iconst 0, 1) := dk_3 (dk_at dksL_law_86 3 rfl rfl)
theorem dL_law_2211 : decode cL_law 2211 = .ok (.ireturn, 1) := dk_172 (dk_at dksL_law_86 4 rfl rfl)
theorem dL_law_2212 : decode cL_law 2212 = .ok (.goto 192, 3) := dk_167 0 192 (dk_at dksL_law_86 5 rfl rfl)
theorem dL_law_2215 : decode cL_law 2215 = .ok (.aload_n 1, 1) := dk_43 (dk_at dksL_law_86 8 rfl rfl)
theorem dL_law_2216 : decode cL_law 2216 = .ok (.aload_n 3, 1) := dk_45 (dk_at dksL_law_86 9 rfl rfl)
theorem dL_law_2217 : decode cL_law 2217 = .ok (.invokestatic 303, 3) := dk_184 1 47 (dk_at dksL_law_86 10 rfl rfl)
theorem dL_law_2220 : decode cL_law 2220 = .ok (.istore 6, 2) := dk_54 6 (dk_at dksL_law_86 13 rfl rfl)
theorem dL_law_2222 : decode cL_law 2222 = .ok (.aload_n 2, 1) := dk_44 (dk_at dksL_law_86 15 rfl rfl)
theorem dL_law_2223 : decode cL_law 2223 = .ok (.invokevirtual 305, 3) := dk_182 1 49 (dk_at dksL_law_86 16 rfl rfl)
theorem dL_law_2226 : decode cL_law 2226 = .ok (.istore 7, 2) := dk_54 7 (dk_at dksL_law_86 19 rfl rfl)
theorem dL_law_2228 : decode cL_law 2228 = .ok (.aload_n 2, 1) := dk_44 (dk_at dksL_law_86 21 rfl rfl)
theorem dL_law_2229 : decode cL_law 2229 = .ok (.invokevirtual 138, 3) := dk_182 0 138 (dk_at dksL_law_87 0 rfl rfl)
theorem dL_law_2232 : decode cL_law 2232 = .ok (.iload 6, 2) := dk_21 6 (dk_at dksL_law_87 3 rfl rfl)
theorem dL_law_2234 : decode cL_law 2234 = .ok (.if_icmp .eq 5, 3) := dk_159 0 5 (dk_at dksL_law_87 5 rfl rfl)
theorem dL_law_2237 : decode cL_law 2237 = .ok (.iconst 0, 1) := dk_3 (dk_at dksL_law_87 8 rfl rfl)
theorem dL_law_2238 : decode cL_law 2238 = .ok (.ireturn, 1) := dk_172 (dk_at dksL_law_87 9 rfl rfl)
theorem dL_law_2239 : decode cL_law 2239 = .ok (.iload 6, 2) := dk_21 6 (dk_at dksL_law_87 10 rfl rfl)
theorem dL_law_2241 : decode cL_law 2241 = .ok (.ifCond .ne 15, 3) := dk_154 0 15 (dk_at dksL_law_87 12 rfl rfl)
theorem dL_law_2244 : decode cL_law 2244 = .ok (.aload_n 3, 1) := dk_45 (dk_at dksL_law_87 15 rfl rfl)
theorem dL_law_2245 : decode cL_law 2245 = .ok (.iconst 0, 1) := dk_3 (dk_at dksL_law_87 16 rfl rfl)
theorem dL_law_2246 : decode cL_law 2246 = .ok (.laload, 1) := dk_47 (dk_at dksL_law_87 17 rfl rfl)
theorem dL_law_2247 : decode cL_law 2247 = .ok (.iload 7, 2) := dk_21 7 (dk_at dksL_law_87 18 rfl rfl)
theorem dL_law_2249 : decode cL_law 2249 = .ok (.i2l, 1) := dk_133 (dk_at dksL_law_87 20 rfl rfl)
theorem dL_law_2250 : decode cL_law 2250 = .ok (.lcmp, 1) := dk_148 (dk_at dksL_law_87 21 rfl rfl)
theorem dL_law_2251 : decode cL_law 2251 = .ok (.ifCond .eq 5, 3) := dk_153 0 5 (dk_at dksL_law_88 0 rfl rfl)
theorem dL_law_2254 : decode cL_law 2254 = .ok (.iconst 0, 1) := dk_3 (dk_at dksL_law_88 3 rfl rfl)
theorem dL_law_2255 : decode cL_law 2255 = .ok (.ireturn, 1) := dk_172 (dk_at dksL_law_88 4 rfl rfl)
theorem dL_law_2256 : decode cL_law 2256 = .ok (.goto 148, 3) := dk_167 0 148 (dk_at dksL_law_88 5 rfl rfl)
theorem dL_law_2259 : decode cL_law 2259 = .ok (.aload_n 1, 1) := dk_43 (dk_at dksL_law_88 8 rfl rfl)
theorem dL_law_2260 : decode cL_law 2260 = .ok (.aload_n 3, 1) := dk_45 (dk_at dksL_law_88 9 rfl rfl)
theorem dL_law_2261 : decode cL_law 2261 = .ok (.invokestatic 306, 3) := dk_184 1 50 (dk_at dksL_law_88 10 rfl rfl)
theorem dL_law_2264 : decode cL_law 2264 = .ok (.istore 6, 2) := dk_54 6 (dk_at dksL_law_88 13 rfl rfl)
theorem dL_law_2266 : decode cL_law 2266 = .ok (.aload_n 2, 1) := dk_44 (dk_at dksL_law_88 15 rfl rfl)
theorem dL_law_2267 : decode cL_law 2267 = .ok (.invokevirtual 308, 3) := dk_182 1 52 (dk_at dksL_law_88 16 rfl rfl)
theorem dL_law_2270 : decode cL_law 2270 = .ok (.istore 7, 2) := dk_54 7 (dk_at dksL_law_88 19 rfl rfl)
theorem dL_law_2272 : decode cL_law 2272 = .ok (.aload_n 2, 1) := dk_44 (dk_at dksL_law_88 21 rfl rfl)
theorem dL_law_2273 : decode cL_law 2273 = .ok (.invokevirtual 138, 3) := dk_182 0 138 (dk_at dksL_law_89 0 rfl rfl)
theorem dL_law_2276 : decode cL_law 2276 = .ok (.iload 6, 2) := dk_21 6 (dk_at dksL_law_89 3 rfl rfl)
theorem dL_law_2278 : decode cL_law 2278 = .ok (.if_icmp .eq 5, 3) := dk_159 0 5 (dk_at dksL_law_89 5 rfl rfl)
theorem dL_law_2281 : decode cL_law 2281 = .ok (.iconst 0, 1) := dk_3 (dk_at dksL_law_89 8 rfl rfl)
theorem dL_law_2282 : decode cL_law 2282 = .ok (.ireturn, 1) := dk_172 (dk_at dksL_law_89 9 rfl rfl)
theorem dL_law_2283 : decode cL_law 2283 = .ok (.iload 6, 2) := dk_21 6 (dk_at dksL_law_89 10 rfl rfl)
theorem dL_law_2285 : decode cL_law 2285 = .ok (.ifCond .ne 15, 3) := dk_154 0 15 (dk_at dksL_law_89 12 rfl rfl)
theorem dL_law_2288 : decode cL_law 2288 = .ok (.aload_n 3, 1) := dk_45 (dk_at dksL_law_89 15 rfl rfl)
theorem dL_law_2289 : decode cL_law 2289 = .ok (.iconst 0, 1) := dk_3 (dk_at dksL_law_89 16 rfl rfl)
theorem dL_law_2290 : decode cL_law 2290 = .ok (.laload, 1) := dk_47 (dk_at dksL_law_89 17 rfl rfl)
theorem dL_law_2291 : decode cL_law 2291 = .ok (.iload 7, 2) := dk_21 7 (dk_at dksL_law_89 18 rfl rfl)
theorem dL_law_2293 : decode cL_law 2293 = .ok (.i2l, 1) := dk_133 (dk_at dksL_law_89 20 rfl rfl)
theorem dL_law_2294 : decode cL_law 2294 = .ok (.lcmp, 1) := dk_148 (dk_at dksL_law_89 21 rfl rfl)
theorem dL_law_2295 : decode cL_law 2295 = .ok (.ifCond .eq 5, 3) := dk_153 0 5 (dk_at dksL_law_90 0 rfl rfl)
theorem dL_law_2298 : decode cL_law 2298 = .ok (.iconst 0, 1) := dk_3 (dk_at dksL_law_90 3 rfl rfl)
theorem dL_law_2299 : decode cL_law 2299 = .ok (.ireturn, 1) := dk_172 (dk_at dksL_law_90 4 rfl rfl)
theorem dL_law_2300 : decode cL_law 2300 = .ok (.goto 104, 3) := dk_167 0 104 (dk_at dksL_law_90 5 rfl rfl)
theorem dL_law_2303 : decode cL_law 2303 = .ok (.aload_n 1, 1) := dk_43 (dk_at dksL_law_90 8 rfl rfl)
theorem dL_law_2304 : decode cL_law 2304 = .ok (.aload_n 3, 1) := dk_45 (dk_at dksL_law_90 9 rfl rfl)
theorem dL_law_2305 : decode cL_law 2305 = .ok (.invokestatic 309, 3) := dk_184 1 53 (dk_at dksL_law_90 10 rfl rfl)
theorem dL_law_2308 : decode cL_law 2308 = .ok (.istore 6, 2) := dk_54 6 (dk_at dksL_law_90 13 rfl rfl)
theorem dL_law_2310 : decode cL_law 2310 = .ok (.aload_n 2, 1) := dk_44 (dk_at dksL_law_90 15 rfl rfl)
theorem dL_law_2311 : decode cL_law 2311 = .ok (.invokevirtual 311, 3) := dk_182 1 55 (dk_at dksL_law_90 16 rfl rfl)
theorem dL_law_2314 : decode cL_law 2314 = .ok (.istore 7, 2) := dk_54 7 (dk_at dksL_law_90 19 rfl rfl)
theorem dL_law_2316 : decode cL_law 2316 = .ok (.aload_n 2, 1) := dk_44 (dk_at dksL_law_90 21 rfl rfl)
theorem dL_law_2317 : decode cL_law 2317 = .ok (.invokevirtual 138, 3) := dk_182 0 138 (dk_at dksL_law_91 0 rfl rfl)
theorem dL_law_2320 : decode cL_law 2320 = .ok (.iload 6, 2) := dk_21 6 (dk_at dksL_law_91 3 rfl rfl)
theorem dL_law_2322 : decode cL_law 2322 = .ok (.if_icmp .eq 5, 3) := dk_159 0 5 (dk_at dksL_law_91 5 rfl rfl)
theorem dL_law_2325 : decode cL_law 2325 = .ok (.iconst 0, 1) := dk_3 (dk_at dksL_law_91 8 rfl rfl)
theorem dL_law_2326 : decode cL_law 2326 = .ok (.ireturn, 1) := dk_172 (dk_at dksL_law_91 9 rfl rfl)
theorem dL_law_2327 : decode cL_law 2327 = .ok (.iload 6, 2) := dk_21 6 (dk_at dksL_law_91 10 rfl rfl)
theorem dL_law_2329 : decode cL_law 2329 = .ok (.ifCond .ne 15, 3) := dk_154 0 15 (dk_at dksL_law_91 12 rfl rfl)
theorem dL_law_2332 : decode cL_law 2332 = .ok (.aload_n 3, 1) := dk_45 (dk_at dksL_law_91 15 rfl rfl)
theorem dL_law_2333 : decode cL_law 2333 = .ok (.iconst 0, 1) := dk_3 (dk_at dksL_law_91 16 rfl rfl)
theorem dL_law_2334 : decode cL_law 2334 = .ok (.laload, 1) := dk_47 (dk_at dksL_law_91 17 rfl rfl)
theorem dL_law_2335 : decode cL_law 2335 = .ok (.iload 7, 2) := dk_21 7 (dk_at dksL_law_91 18 rfl rfl)
theorem dL_law_2337 : decode cL_law 2337 = .ok (.i2l, 1) := dk_133 (dk_at dksL_law_91 20 rfl rfl)
theorem dL_law_2338 : decode cL_law 2338 = .ok (.lcmp, 1) := dk_148 (dk_at dksL_law_91 21 rfl rfl)
theorem dL_law_2339 : decode cL_law 2339 = .ok (.ifCond .eq 5, 3) := dk_153 0 5 (dk_at dksL_law_92 0 rfl rfl)
theorem dL_law_2342 : decode cL_law 2342 = .ok (.iconst 0, 1) := dk_3 (dk_at dksL_law_92 3 rfl rfl)
theorem dL_law_2343 : decode cL_law 2343 = .ok (.ireturn, 1) := dk_172 (dk_at dksL_law_92 4 rfl rfl)
theorem dL_law_2344 : decode cL_law 2344 = .ok (.goto 60, 3) := dk_167 0 60 (dk_at dksL_law_92 5 rfl rfl)
theorem dL_law_2347 : decode cL_law 2347 = .ok (.aload_n 1, 1) := dk_43 (dk_at dksL_law_92 8 rfl rfl)
theorem dL_law_2348 : decode cL_law 2348 = .ok (.invokevirtual 312, 3) := dk_182 1 56 (dk_at dksL_law_92 9 rfl rfl)
theorem dL_law_2351 : decode cL_law 2351 = .ok (.aload_n 2, 1) := dk_44 (dk_at dksL_law_92 12 rfl rfl)
theorem dL_law_2352 : decode cL_law 2352 = .ok (.invokevirtual 315, 3) := dk_182 1 59 (dk_at dksL_law_92 13 rfl rfl)
theorem dL_law_2355 : decode cL_law 2355 = .ok (.if_icmp .eq 49, 3) := dk_159 0 49 (dk_at dksL_law_92 16 rfl rfl)
theorem dL_law_2358 : decode cL_law 2358 = .ok (.iconst 0, 1) := dk_3 (dk_at dksL_law_92 19 rfl rfl)
theorem dL_law_2359 : decode cL_law 2359 = .ok (.ireturn, 1) := dk_172 (dk_at dksL_law_92 20 rfl rfl)
theorem dL_law_2360 : decode cL_law 2360 = .ok (.aload_n 1, 1) := dk_43 (dk_at dksL_law_92 21 rfl rfl)
theorem dL_law_2361 : decode cL_law 2361 = .ok (.aload_n 3, 1) := dk_45 (dk_at dksL_law_92 22 rfl rfl)
theorem dL_law_2362 : decode cL_law 2362 = .ok (.invokestatic 316, 3) := dk_184 1 60 (dk_at dksL_law_93 0 rfl rfl)
theorem dL_law_2365 : decode cL_law 2365 = .ok (.istore 6, 2) := dk_54 6 (dk_at dksL_law_93 3 rfl rfl)
theorem dL_law_2367 : decode cL_law 2367 = .ok (.aload_n 2, 1) := dk_44 (dk_at dksL_law_93 5 rfl rfl)
theorem dL_law_2368 : decode cL_law 2368 = .ok (.invokevirtual 318, 3) := dk_182 1 62 (dk_at dksL_law_93 6 rfl rfl)
theorem dL_law_2371 : decode cL_law 2371 = .ok (.istore 7, 2) := dk_54 7 (dk_at dksL_law_93 9 rfl rfl)
theorem dL_law_2373 : decode cL_law 2373 = .ok (.aload_n 2, 1) := dk_44 (dk_at dksL_law_93 11 rfl rfl)
theorem dL_law_2374 : decode cL_law 2374 = .ok (.invokevirtual 138, 3) := dk_182 0 138 (dk_at dksL_law_93 12 rfl rfl)
theorem dL_law_2377 : decode cL_law 2377 = .ok (.iload 6, 2) := dk_21 6 (dk_at dksL_law_93 15 rfl rfl)
theorem dL_law_2379 : decode cL_law 2379 = .ok (.if_icmp .eq 5, 3) := dk_159 0 5 (dk_at dksL_law_93 17 rfl rfl)
theorem dL_law_2382 : decode cL_law 2382 = .ok (.iconst 0, 1) := dk_3 (dk_at dksL_law_93 20 rfl rfl)
theorem dL_law_2383 : decode cL_law 2383 = .ok (.ireturn, 1) := dk_172 (dk_at dksL_law_93 21 rfl rfl)
theorem dL_law_2384 : decode cL_law 2384 = .ok (.iload 6, 2) := dk_21 6 (dk_at dksL_law_93 22 rfl rfl)
theorem dL_law_2386 : decode cL_law 2386 = .ok (.ifCond .ne 15, 3) := dk_154 0 15 (dk_at dksL_law_94 0 rfl rfl)
theorem dL_law_2389 : decode cL_law 2389 = .ok (.aload_n 3, 1) := dk_45 (dk_at dksL_law_94 3 rfl rfl)
theorem dL_law_2390 : decode cL_law 2390 = .ok (.iconst 0, 1) := dk_3 (dk_at dksL_law_94 4 rfl rfl)
theorem dL_law_2391 : decode cL_law 2391 = .ok (.laload, 1) := dk_47 (dk_at dksL_law_94 5 rfl rfl)
theorem dL_law_2392 : decode cL_law 2392 = .ok (.iload 7, 2) := dk_21 7 (dk_at dksL_law_94 6 rfl rfl)
theorem dL_law_2394 : decode cL_law 2394 = .ok (.i2l, 1) := dk_133 (dk_at dksL_law_94 8 rfl rfl)
theorem dL_law_2395 : decode cL_law 2395 = .ok (.lcmp, 1) := dk_148 (dk_at dksL_law_94 9 rfl rfl)
theorem dL_law_2396 : decode cL_law 2396 = .ok (.ifCond .eq 5, 3) := dk_153 0 5 (dk_at dksL_law_94 10 rfl rfl)
theorem dL_law_2399 : decode cL_law 2399 = .ok (.iconst 0, 1) := dk_3 (dk_at dksL_law_94 13 rfl rfl)
theorem dL_law_2400 : decode cL_law 2400 = .ok (.ireturn, 1) := dk_172 (dk_at dksL_law_94 14 rfl rfl)
theorem dL_law_2401 : decode cL_law 2401 = .ok (.goto 3, 3) := dk_167 0 3 (dk_at dksL_law_94 15 rfl rfl)
theorem dL_law_2404 : decode cL_law 2404 = .ok (.iinc 5 3, 3) := dk_132 5 3 (dk_at dksL_law_94 18 rfl rfl)
theorem dL_law_2407 : decode cL_law 2407 = .ok (.goto (-2379), 3) := dk_167 246 181 (dk_at dksL_law_94 21 rfl rfl)
theorem dL_law_2410 : decode cL_law 2410 = .ok (.iconst 1, 1) := dk_4 (dk_at dksL_law_95 0 rfl rfl)
theorem dL_law_2411 : decode cL_law 2411 = .ok (.ireturn, 1) := dk_172 (dk_at dksL_law_95 1 rfl rfl)

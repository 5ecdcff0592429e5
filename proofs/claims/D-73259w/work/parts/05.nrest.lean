/-! WatchStack$Told -/
set_option maxRecDepth 100000
def RX1 : String := "WatchStack$Told"
def TX1 : u_T := fun k => match k with
  | 0 => ("WatchStack$Told", "tasks", "Ljava/util/ArrayList;", true)
  | 1 => ("WatchStack$Told", "injections", "Ljava/util/ArrayList;", true)
  | 2 => ("WatchStack$Told", "over", "[I", true)
  | 3 => ("WatchStack$Told", "ticks", "I", false)
  | 4 => ("WatchStack$Told", "cycle", "I", false)
  | 5 => ("WatchStack$Told", "low", "I", false)
  | 6 => ("WatchStack$Told", "watchers", "I", false)
  | 7 => ("WatchStack$Told", "told", "I", false)
  | _ => ("WatchStack$Told", "lines", "I", false)
def tyX1 : Nat → FieldType := fun k => match k with
  | 0 => .object "java/util/ArrayList"
  | 1 => .object "java/util/ArrayList"
  | 2 => .array .int
  | 3 => .int
  | 4 => .int
  | 5 => .int
  | 6 => .int
  | 7 => .int
  | _ => .int
abbrev wsX10 : List Cond := u_ws RX1 TX1 9
theorem nmX1 : ∀ a, a < 9 → ∀ b, b < 9 → a ≠ b → (TX1 a).2.1 ≠ (TX1 b).2.1 := by decide +kernel
theorem tyX1_ok : ∀ k, k < 9 → parseFieldDescriptor (TX1 k).2.2.1 = some (tyX1 k) := by decide +kernel
abbrev cX1_init : ByteArray := prog_14_method_1_code
def yX1_init : MethodName := ⟨RX1, "<init>", "()V"⟩
def dkwX1_init_1 : List UInt8 := [183, 0, 11, 181, 0, 20, 42, 6, 188, 10, 181, 0, 23, 177]
abbrev dktX1_init_1 : List UInt8 := dkwX1_init_1 ++ []
def dkwX1_init_0 : List UInt8 := [42, 183, 0, 3, 42, 187, 0, 9, 89, 8, 183, 0, 11, 181, 0, 14, 42, 187, 0, 9, 89, 16, 18]
abbrev dktX1_init_0 : List UInt8 := dkwX1_init_0 ++ dktX1_init_1
theorem dksX1_init_0 : cX1_init.data.toList.drop 0 = dktX1_init_0 := by decide +kernel
theorem dksX1_init_1 : cX1_init.data.toList.drop 23 = dktX1_init_1 := dk_seg dksX1_init_0 23 rfl rfl
theorem dX1_init_0 : decode cX1_init 0 = .ok (.aload_n 0, 1) := dk_42 (dk_at dksX1_init_0 0 rfl rfl)
theorem dX1_init_1 : decode cX1_init 1 = .ok (.invokespecial 3, 3) := dk_183 0 3 (dk_at dksX1_init_0 1 rfl rfl)
theorem dX1_init_4 : decode cX1_init 4 = .ok (.aload_n 0, 1) := dk_42 (dk_at dksX1_init_0 4 rfl rfl)
theorem dX1_init_5 : decode cX1_init 5 = .ok (.new 9, 3) := dk_187 0 9 (dk_at dksX1_init_0 5 rfl rfl)
theorem dX1_init_8 : decode cX1_init 8 = .ok (.dup, 1) := dk_89 (dk_at dksX1_init_0 8 rfl rfl)
theorem dX1_init_9 : decode cX1_init 9 = .ok (.iconst 5, 1) := dk_8 (dk_at dksX1_init_0 9 rfl rfl)
theorem dX1_init_10 : decode cX1_init 10 = .ok (.invokespecial 11, 3) := dk_183 0 11 (dk_at dksX1_init_0 10 rfl rfl)
theorem dX1_init_13 : decode cX1_init 13 = .ok (.putfield 14, 3) := dk_181 0 14 (dk_at dksX1_init_0 13 rfl rfl)
theorem dX1_init_16 : decode cX1_init 16 = .ok (.aload_n 0, 1) := dk_42 (dk_at dksX1_init_0 16 rfl rfl)
theorem dX1_init_17 : decode cX1_init 17 = .ok (.new 9, 3) := dk_187 0 9 (dk_at dksX1_init_0 17 rfl rfl)
theorem dX1_init_20 : decode cX1_init 20 = .ok (.dup, 1) := dk_89 (dk_at dksX1_init_0 20 rfl rfl)
theorem dX1_init_21 : decode cX1_init 21 = .ok (.bipush 18, 2) := dk_16 18 (dk_at dksX1_init_0 21 rfl rfl)
theorem dX1_init_23 : decode cX1_init 23 = .ok (.invokespecial 11, 3) := dk_183 0 11 (dk_at dksX1_init_1 0 rfl rfl)
theorem dX1_init_26 : decode cX1_init 26 = .ok (.putfield 20, 3) := dk_181 0 20 (dk_at dksX1_init_1 3 rfl rfl)
theorem dX1_init_29 : decode cX1_init 29 = .ok (.aload_n 0, 1) := dk_42 (dk_at dksX1_init_1 6 rfl rfl)
theorem dX1_init_30 : decode cX1_init 30 = .ok (.iconst 3, 1) := dk_6 (dk_at dksX1_init_1 7 rfl rfl)
theorem dX1_init_31 : decode cX1_init 31 = .ok (.newarray .int, 2) := dk_188_10 (dk_at dksX1_init_1 8 rfl rfl)
theorem dX1_init_33 : decode cX1_init 33 = .ok (.putfield 23, 3) := dk_181 0 23 (dk_at dksX1_init_1 10 rfl rfl)
theorem dX1_init_36 : decode cX1_init 36 = .ok (.return_, 1) := dk_177 (dk_at dksX1_init_1 13 rfl rfl)
abbrev cX1_is : ByteArray := prog_14_method_2_code
def yX1_is : MethodName := ⟨RX1, "is", "()Z"⟩
def dkwX1_is_0 : List UInt8 := [42, 180, 0, 27, 158, 0, 7, 4, 167, 0, 4, 3, 172]
abbrev dktX1_is_0 : List UInt8 := dkwX1_is_0 ++ []
theorem dksX1_is_0 : cX1_is.data.toList.drop 0 = dktX1_is_0 := by decide +kernel
theorem dX1_is_0 : decode cX1_is 0 = .ok (.aload_n 0, 1) := dk_42 (dk_at dksX1_is_0 0 rfl rfl)
theorem dX1_is_1 : decode cX1_is 1 = .ok (.getfield 27, 3) := dk_180 0 27 (dk_at dksX1_is_0 1 rfl rfl)
theorem dX1_is_4 : decode cX1_is 4 = .ok (.ifCond .le 7, 3) := dk_158 0 7 (dk_at dksX1_is_0 4 rfl rfl)
theorem dX1_is_7 : decode cX1_is 7 = .ok (.iconst 1, 1) := dk_4 (dk_at dksX1_is_0 7 rfl rfl)
theorem dX1_is_8 : decode cX1_is 8 = .ok (.goto 4, 3) := dk_167 0 4 (dk_at dksX1_is_0 8 rfl rfl)
theorem dX1_is_11 : decode cX1_is 11 = .ok (.iconst 0, 1) := dk_3 (dk_at dksX1_is_0 11 rfl rfl)
theorem dX1_is_12 : decode cX1_is 12 = .ok (.ireturn, 1) := dk_172 (dk_at dksX1_is_0 12 rfl rfl)
abbrev cX1_isUnder : ByteArray := prog_14_method_4_code
def yX1_isUnder : MethodName := ⟨RX1, "isUnder", "(II)Z"⟩
def dkwX1_isUnder_1 : List UInt8 := [3, 172]
abbrev dktX1_isUnder_1 : List UInt8 := dkwX1_isUnder_1 ++ []
def dkwX1_isUnder_0 : List UInt8 := [27, 62, 29, 2, 159, 0, 20, 29, 28, 160, 0, 5, 4, 172, 42, 180, 0, 23, 29, 46, 62, 167, 255, 237]
abbrev dktX1_isUnder_0 : List UInt8 := dkwX1_isUnder_0 ++ dktX1_isUnder_1
theorem dksX1_isUnder_0 : cX1_isUnder.data.toList.drop 0 = dktX1_isUnder_0 := by decide +kernel
theorem dksX1_isUnder_1 : cX1_isUnder.data.toList.drop 24 = dktX1_isUnder_1 := dk_seg dksX1_isUnder_0 24 rfl rfl
theorem dX1_isUnder_0 : decode cX1_isUnder 0 = .ok (.iload_n 1, 1) := dk_27 (dk_at dksX1_isUnder_0 0 rfl rfl)
theorem dX1_isUnder_1 : decode cX1_isUnder 1 = .ok (.istore_n 3, 1) := dk_62 (dk_at dksX1_isUnder_0 1 rfl rfl)
theorem dX1_isUnder_2 : decode cX1_isUnder 2 = .ok (.iload_n 3, 1) := dk_29 (dk_at dksX1_isUnder_0 2 rfl rfl)
theorem dX1_isUnder_3 : decode cX1_isUnder 3 = .ok (.iconst (-1), 1) := dk_2 (dk_at dksX1_isUnder_0 3 rfl rfl)
theorem dX1_isUnder_4 : decode cX1_isUnder 4 = .ok (.if_icmp .eq 20, 3) := dk_159 0 20 (dk_at dksX1_isUnder_0 4 rfl rfl)
theorem dX1_isUnder_7 : decode cX1_isUnder 7 = .ok (.iload_n 3, 1) := dk_29 (dk_at dksX1_isUnder_0 7 rfl rfl)
theorem dX1_isUnder_8 : decode cX1_isUnder 8 = .ok (.iload_n 2, 1) := dk_28 (dk_at dksX1_isUnder_0 8 rfl rfl)
theorem dX1_isUnder_9 : decode cX1_isUnder 9 = .ok (.if_icmp .ne 5, 3) := dk_160 0 5 (dk_at dksX1_isUnder_0 9 rfl rfl)
theorem dX1_isUnder_12 : decode cX1_isUnder 12 = .ok (.iconst 1, 1) := dk_4 (dk_at dksX1_isUnder_0 12 rfl rfl)
theorem dX1_isUnder_13 : decode cX1_isUnder 13 = .ok (.ireturn, 1) := dk_172 (dk_at dksX1_isUnder_0 13 rfl rfl)
theorem dX1_isUnder_14 : decode cX1_isUnder 14 = .ok (.aload_n 0, 1) := dk_42 (dk_at dksX1_isUnder_0 14 rfl rfl)
theorem dX1_isUnder_15 : decode cX1_isUnder 15 = .ok (.getfield 23, 3) := dk_180 0 23 (dk_at dksX1_isUnder_0 15 rfl rfl)
theorem dX1_isUnder_18 : decode cX1_isUnder 18 = .ok (.iload_n 3, 1) := dk_29 (dk_at dksX1_isUnder_0 18 rfl rfl)
theorem dX1_isUnder_19 : decode cX1_isUnder 19 = .ok (.iaload, 1) := dk_46 (dk_at dksX1_isUnder_0 19 rfl rfl)
theorem dX1_isUnder_20 : decode cX1_isUnder 20 = .ok (.istore_n 3, 1) := dk_62 (dk_at dksX1_isUnder_0 20 rfl rfl)
theorem dX1_isUnder_21 : decode cX1_isUnder 21 = .ok (.goto (-19), 3) := dk_167 255 237 (dk_at dksX1_isUnder_0 21 rfl rfl)
theorem dX1_isUnder_24 : decode cX1_isUnder 24 = .ok (.iconst 0, 1) := dk_3 (dk_at dksX1_isUnder_1 0 rfl rfl)
theorem dX1_isUnder_25 : decode cX1_isUnder 25 = .ok (.ireturn, 1) := dk_172 (dk_at dksX1_isUnder_1 1 rfl rfl)
abbrev cX1_same : ByteArray := prog_14_method_3_code
def yX1_same : MethodName := ⟨RX1, "same", "()LWatchStack$Told;"⟩
def dkwX1_same_3 : List UInt8 := [180, 0, 51, 181, 0, 51, 43, 42, 180, 0, 54, 181, 0, 54, 43, 42, 180, 0, 27, 181, 0, 27, 43, 176]
abbrev dktX1_same_3 : List UInt8 := dkwX1_same_3 ++ []
def dkwX1_same_2 : List UInt8 := [180, 0, 42, 181, 0, 42, 43, 42, 180, 0, 45, 181, 0, 45, 43, 42, 180, 0, 48, 181, 0, 48, 43, 42]
abbrev dktX1_same_2 : List UInt8 := dkwX1_same_2 ++ dktX1_same_3
def dkwX1_same_1 : List UInt8 := [42, 180, 0, 20, 182, 0, 32, 87, 42, 180, 0, 23, 3, 43, 180, 0, 23, 3, 6, 184, 0, 36, 43, 42]
abbrev dktX1_same_1 : List UInt8 := dkwX1_same_1 ++ dktX1_same_2
def dkwX1_same_0 : List UInt8 := [187, 0, 15, 89, 183, 0, 31, 76, 43, 180, 0, 14, 42, 180, 0, 14, 182, 0, 32, 87, 43, 180, 0, 20]
abbrev dktX1_same_0 : List UInt8 := dkwX1_same_0 ++ dktX1_same_1
theorem dksX1_same_0 : cX1_same.data.toList.drop 0 = dktX1_same_0 := by decide +kernel
theorem dksX1_same_1 : cX1_same.data.toList.drop 24 = dktX1_same_1 := dk_seg dksX1_same_0 24 rfl rfl
theorem dksX1_same_2 : cX1_same.data.toList.drop 48 = dktX1_same_2 := dk_seg dksX1_same_1 24 rfl rfl
theorem dksX1_same_3 : cX1_same.data.toList.drop 72 = dktX1_same_3 := dk_seg dksX1_same_2 24 rfl rfl
theorem dX1_same_0 : decode cX1_same 0 = .ok (.new 15, 3) := dk_187 0 15 (dk_at dksX1_same_0 0 rfl rfl)
theorem dX1_same_3 : decode cX1_same 3 = .ok (.dup, 1) := dk_89 (dk_at dksX1_same_0 3 rfl rfl)
theorem dX1_same_4 : decode cX1_same 4 = .ok (.invokespecial 31, 3) := dk_183 0 31 (dk_at dksX1_same_0 4 rfl rfl)
theorem dX1_same_7 : decode cX1_same 7 = .ok (.astore_n 1, 1) := dk_76 (dk_at dksX1_same_0 7 rfl rfl)
theorem dX1_same_8 : decode cX1_same 8 = .ok (.aload_n 1, 1) := dk_43 (dk_at dksX1_same_0 8 rfl rfl)
theorem dX1_same_9 : decode cX1_same 9 = .ok (.getfield 14, 3) := dk_180 0 14 (dk_at dksX1_same_0 9 rfl rfl)
theorem dX1_same_12 : decode cX1_same 12 = .ok (.aload_n 0, 1) := dk_42 (dk_at dksX1_same_0 12 rfl rfl)
theorem dX1_same_13 : decode cX1_same 13 = .ok (.getfield 14, 3) := dk_180 0 14 (dk_at dksX1_same_0 13 rfl rfl)
theorem dX1_same_16 : decode cX1_same 16 = .ok (.invokevirtual 32, 3) := dk_182 0 32 (dk_at dksX1_same_0 16 rfl rfl)
theorem dX1_same_19 : decode cX1_same 19 = .ok (.pop, 1) := dk_87 (dk_at dksX1_same_0 19 rfl rfl)
theorem dX1_same_20 : decode cX1_same 20 = .ok (.aload_n 1, 1) := dk_43 (dk_at dksX1_same_0 20 rfl rfl)
theorem dX1_same_21 : decode cX1_same 21 = .ok (.getfield 20, 3) := dk_180 0 20 (dk_at dksX1_same_0 21 rfl rfl)
theorem dX1_same_24 : decode cX1_same 24 = .ok (.aload_n 0, 1) := dk_42 (dk_at dksX1_same_1 0 rfl rfl)
theorem dX1_same_25 : decode cX1_same 25 = .ok (.getfield 20, 3) := dk_180 0 20 (dk_at dksX1_same_1 1 rfl rfl)
theorem dX1_same_28 : decode cX1_same 28 = .ok (.invokevirtual 32, 3) := dk_182 0 32 (dk_at dksX1_same_1 4 rfl rfl)
theorem dX1_same_31 : decode cX1_same 31 = .ok (.pop, 1) := dk_87 (dk_at dksX1_same_1 7 rfl rfl)
theorem dX1_same_32 : decode cX1_same 32 = .ok (.aload_n 0, 1) := dk_42 (dk_at dksX1_same_1 8 rfl rfl)
theorem dX1_same_33 : decode cX1_same 33 = .ok (.getfield 23, 3) := dk_180 0 23 (dk_at dksX1_same_1 9 rfl rfl)
theorem dX1_same_36 : decode cX1_same 36 = .ok (.iconst 0, 1) := dk_3 (dk_at dksX1_same_1 12 rfl rfl)
theorem dX1_same_37 : decode cX1_same 37 = .ok (.aload_n 1, 1) := dk_43 (dk_at dksX1_same_1 13 rfl rfl)
theorem dX1_same_38 : decode cX1_same 38 = .ok (.getfield 23, 3) := dk_180 0 23 (dk_at dksX1_same_1 14 rfl rfl)
theorem dX1_same_41 : decode cX1_same 41 = .ok (.iconst 0, 1) := dk_3 (dk_at dksX1_same_1 17 rfl rfl)
theorem dX1_same_42 : decode cX1_same 42 = .ok (.iconst 3, 1) := dk_6 (dk_at dksX1_same_1 18 rfl rfl)
theorem dX1_same_43 : decode cX1_same 43 = .ok (.invokestatic 36, 3) := dk_184 0 36 (dk_at dksX1_same_1 19 rfl rfl)
theorem dX1_same_46 : decode cX1_same 46 = .ok (.aload_n 1, 1) := dk_43 (dk_at dksX1_same_1 22 rfl rfl)
theorem dX1_same_47 : decode cX1_same 47 = .ok (.aload_n 0, 1) := dk_42 (dk_at dksX1_same_1 23 rfl rfl)
theorem dX1_same_48 : decode cX1_same 48 = .ok (.getfield 42, 3) := dk_180 0 42 (dk_at dksX1_same_2 0 rfl rfl)
theorem dX1_same_51 : decode cX1_same 51 = .ok (.putfield 42, 3) := dk_181 0 42 (dk_at dksX1_same_2 3 rfl rfl)
theorem dX1_same_54 : decode cX1_same 54 = .ok (.aload_n 1, 1) := dk_43 (dk_at dksX1_same_2 6 rfl rfl)
theorem dX1_same_55 : decode cX1_same 55 = .ok (.aload_n 0, 1) := dk_42 (dk_at dksX1_same_2 7 rfl rfl)
theorem dX1_same_56 : decode cX1_same 56 = .ok (.getfield 45, 3) := dk_180 0 45 (dk_at dksX1_same_2 8 rfl rfl)
theorem dX1_same_59 : decode cX1_same 59 = .ok (.putfield 45, 3) := dk_181 0 45 (dk_at dksX1_same_2 11 rfl rfl)
theorem dX1_same_62 : decode cX1_same 62 = .ok (.aload_n 1, 1) := dk_43 (dk_at dksX1_same_2 14 rfl rfl)
theorem dX1_same_63 : decode cX1_same 63 = .ok (.aload_n 0, 1) := dk_42 (dk_at dksX1_same_2 15 rfl rfl)
theorem dX1_same_64 : decode cX1_same 64 = .ok (.getfield 48, 3) := dk_180 0 48 (dk_at dksX1_same_2 16 rfl rfl)
theorem dX1_same_67 : decode cX1_same 67 = .ok (.putfield 48, 3) := dk_181 0 48 (dk_at dksX1_same_2 19 rfl rfl)
theorem dX1_same_70 : decode cX1_same 70 = .ok (.aload_n 1, 1) := dk_43 (dk_at dksX1_same_2 22 rfl rfl)
theorem dX1_same_71 : decode cX1_same 71 = .ok (.aload_n 0, 1) := dk_42 (dk_at dksX1_same_2 23 rfl rfl)
theorem dX1_same_72 : decode cX1_same 72 = .ok (.getfield 51, 3) := dk_180 0 51 (dk_at dksX1_same_3 0 rfl rfl)
theorem dX1_same_75 : decode cX1_same 75 = .ok (.putfield 51, 3) := dk_181 0 51 (dk_at dksX1_same_3 3 rfl rfl)
theorem dX1_same_78 : decode cX1_same 78 = .ok (.aload_n 1, 1) := dk_43 (dk_at dksX1_same_3 6 rfl rfl)
theorem dX1_same_79 : decode cX1_same 79 = .ok (.aload_n 0, 1) := dk_42 (dk_at dksX1_same_3 7 rfl rfl)
theorem dX1_same_80 : decode cX1_same 80 = .ok (.getfield 54, 3) := dk_180 0 54 (dk_at dksX1_same_3 8 rfl rfl)
theorem dX1_same_83 : decode cX1_same 83 = .ok (.putfield 54, 3) := dk_181 0 54 (dk_at dksX1_same_3 11 rfl rfl)
theorem dX1_same_86 : decode cX1_same 86 = .ok (.aload_n 1, 1) := dk_43 (dk_at dksX1_same_3 14 rfl rfl)
theorem dX1_same_87 : decode cX1_same 87 = .ok (.aload_n 0, 1) := dk_42 (dk_at dksX1_same_3 15 rfl rfl)
theorem dX1_same_88 : decode cX1_same 88 = .ok (.getfield 27, 3) := dk_180 0 27 (dk_at dksX1_same_3 16 rfl rfl)
theorem dX1_same_91 : decode cX1_same 91 = .ok (.putfield 27, 3) := dk_181 0 27 (dk_at dksX1_same_3 19 rfl rfl)
theorem dX1_same_94 : decode cX1_same 94 = .ok (.aload_n 1, 1) := dk_43 (dk_at dksX1_same_3 22 rfl rfl)
theorem dX1_same_95 : decode cX1_same 95 = .ok (.areturn, 1) := dk_176 (dk_at dksX1_same_3 23 rfl rfl)
theorem q138 : (Jvm.Cond.initialized "WatchStack$Told") ∈ lw_all := lw_g (lw_at lw_m1 2 rfl) rfl
theorem q183 : (Jvm.Cond.instantiable "WatchStack$Told" (9 : Nat)) ∈ lw_all := lw_g (lw_at lw_m1 47 rfl) rfl
theorem q185 : (Jvm.Cond.instanceMethod ({ cls := "WatchStack$Told", name := "<init>", desc := "()V" } : Jvm.MethodName)) ∈ lw_all := lw_g (lw_at lw_m1 49 rfl) rfl
theorem q186 : (Jvm.Cond.code ({ cls := "WatchStack$Told", name := "<init>", desc := "()V" } : Jvm.MethodName) prog_14_method_1_code (1 : Nat) (Option.none : Option Jvm.ClassFile.FieldType)) ∈ lw_all := lw_g (lw_at lw_m1 50 rfl) rfl
theorem q187 : (Jvm.Cond.methodLink "WatchStack$Told" (3 : Nat) ({ cls := "java/lang/Object", name := "<init>", desc := "()V" } : Jvm.MethodName)) ∈ lw_all := lw_g (lw_at lw_m1 51 rfl) rfl
theorem q188 : (Jvm.Cond.classLink "WatchStack$Told" (9 : Nat) "java/util/ArrayList") ∈ lw_all := lw_g (lw_at lw_m1 52 rfl) rfl
theorem q190 : (Jvm.Cond.methodLink "WatchStack$Told" (11 : Nat) ({ cls := "java/util/ArrayList", name := "<init>", desc := "(I)V" } : Jvm.MethodName)) ∈ lw_all := lw_g (lw_at lw_m1 54 rfl) rfl
theorem q216 : (Jvm.Cond.fieldLink "WatchStack$Told" (14 : Nat) "WatchStack$Told" "tasks" "Ljava/util/ArrayList;") ∈ lw_all := lw_g (lw_at lw_m1 80 rfl) rfl
theorem q219 : (Jvm.Cond.fieldLink "WatchStack$Told" (20 : Nat) "WatchStack$Told" "injections" "Ljava/util/ArrayList;") ∈ lw_all := lw_g (lw_at lw_m1 83 rfl) rfl
theorem q222 : (Jvm.Cond.fieldLink "WatchStack$Told" (23 : Nat) "WatchStack$Told" "over" "[I") ∈ lw_all := lw_g (lw_at lw_m1 86 rfl) rfl
theorem q225 : (Jvm.Cond.fieldLink "WatchStack$Told" (42 : Nat) "WatchStack$Told" "ticks" "I") ∈ lw_all := lw_g (lw_at lw_m1 89 rfl) rfl
theorem q228 : (Jvm.Cond.fieldLink "WatchStack$Told" (45 : Nat) "WatchStack$Told" "cycle" "I") ∈ lw_all := lw_g (lw_at lw_m1 92 rfl) rfl
theorem q231 : (Jvm.Cond.fieldLink "WatchStack$Told" (48 : Nat) "WatchStack$Told" "low" "I") ∈ lw_all := lw_g (lw_at lw_m1 95 rfl) rfl
theorem q235 : (Jvm.Cond.fieldLink "WatchStack$Told" (51 : Nat) "WatchStack$Told" "watchers" "I") ∈ lw_all := lw_g (lw_at lw_m1 99 rfl) rfl
theorem q238 : (Jvm.Cond.fieldLink "WatchStack$Told" (54 : Nat) "WatchStack$Told" "told" "I") ∈ lw_all := lw_g (lw_at lw_m1 102 rfl) rfl
theorem q241 : (Jvm.Cond.fieldLink "WatchStack$Told" (27 : Nat) "WatchStack$Told" "lines" "I") ∈ lw_all := lw_g (lw_at lw_m1 105 rfl) rfl
theorem q244 : (Jvm.Cond.laysFinal "WatchStack$Told" "WatchStack$Told" "tasks" "Ljava/util/ArrayList;") ∈ lw_all := lw_g (lw_at lw_m1 108 rfl) rfl
theorem q245 : (Jvm.Cond.soleField "WatchStack$Told" "tasks") ∈ lw_all := lw_g (lw_at lw_m1 109 rfl) rfl
theorem q246 : (Jvm.Cond.laysFinal "WatchStack$Told" "WatchStack$Told" "injections" "Ljava/util/ArrayList;") ∈ lw_all := lw_g (lw_at lw_m1 110 rfl) rfl
theorem q247 : (Jvm.Cond.soleField "WatchStack$Told" "injections") ∈ lw_all := lw_g (lw_at lw_m1 111 rfl) rfl
theorem q248 : (Jvm.Cond.laysFinal "WatchStack$Told" "WatchStack$Told" "over" "[I") ∈ lw_all := lw_g (lw_at lw_m1 112 rfl) rfl
theorem q249 : (Jvm.Cond.soleField "WatchStack$Told" "over") ∈ lw_all := lw_g (lw_at lw_m1 113 rfl) rfl
theorem q250 : (Jvm.Cond.lays "WatchStack$Told" "WatchStack$Told" "ticks" "I") ∈ lw_all := lw_g (lw_at lw_m1 114 rfl) rfl
theorem q251 : (Jvm.Cond.soleField "WatchStack$Told" "ticks") ∈ lw_all := lw_g (lw_at lw_m1 115 rfl) rfl
theorem q252 : (Jvm.Cond.lays "WatchStack$Told" "WatchStack$Told" "cycle" "I") ∈ lw_all := lw_g (lw_at lw_m1 116 rfl) rfl
theorem q253 : (Jvm.Cond.soleField "WatchStack$Told" "cycle") ∈ lw_all := lw_g (lw_at lw_m1 117 rfl) rfl
theorem q254 : (Jvm.Cond.lays "WatchStack$Told" "WatchStack$Told" "low" "I") ∈ lw_all := lw_g (lw_at lw_m1 118 rfl) rfl
theorem q255 : (Jvm.Cond.soleField "WatchStack$Told" "low") ∈ lw_all := lw_g (lw_at lw_m1 119 rfl) rfl
theorem q256 : (Jvm.Cond.lays "WatchStack$Told" "WatchStack$Told" "watchers" "I") ∈ lw_all := lw_g (lw_at lw_m1 120 rfl) rfl
theorem q257 : (Jvm.Cond.soleField "WatchStack$Told" "watchers") ∈ lw_all := lw_g (lw_at lw_m1 121 rfl) rfl
theorem q258 : (Jvm.Cond.lays "WatchStack$Told" "WatchStack$Told" "told" "I") ∈ lw_all := lw_g (lw_at lw_m1 122 rfl) rfl
theorem q259 : (Jvm.Cond.soleField "WatchStack$Told" "told") ∈ lw_all := lw_g (lw_at lw_m1 123 rfl) rfl
theorem q260 : (Jvm.Cond.lays "WatchStack$Told" "WatchStack$Told" "lines" "I") ∈ lw_all := lw_g (lw_at lw_m1 124 rfl) rfl
theorem q261 : (Jvm.Cond.soleField "WatchStack$Told" "lines") ∈ lw_all := lw_g (lw_at lw_m1 125 rfl) rfl
theorem q262 : (Jvm.Cond.superclass "WatchStack$Told" "java/lang/Object") ∈ lw_all := lw_g (lw_at lw_m1 126 rfl) rfl
theorem q903 : (Jvm.Cond.selects "WatchStack$Told" ({ cls := "java/lang/Object", name := "getClass", desc := "()Ljava/lang/Class;" } : Jvm.MethodName) ({ cls := "java/lang/Object", name := "getClass", desc := "()Ljava/lang/Class;" } : Jvm.MethodName)) ∈ lw_all := lw_g (lw_at lw_m4 47 rfl) rfl
theorem q1106 : (Jvm.Cond.instanceMethod ({ cls := "WatchStack$Told", name := "is", desc := "()Z" } : Jvm.MethodName)) ∈ lw_all := lw_g (lw_at lw_m5 10 rfl) rfl
theorem q1107 : (Jvm.Cond.selects "WatchStack$Told" ({ cls := "WatchStack$Told", name := "is", desc := "()Z" } : Jvm.MethodName) ({ cls := "WatchStack$Told", name := "is", desc := "()Z" } : Jvm.MethodName)) ∈ lw_all := lw_g (lw_at lw_m5 11 rfl) rfl
theorem q1108 : (Jvm.Cond.code ({ cls := "WatchStack$Told", name := "is", desc := "()Z" } : Jvm.MethodName) prog_14_method_2_code (1 : Nat) (Option.some Jvm.ClassFile.FieldType.boolean)) ∈ lw_all := lw_g (lw_at lw_m5 12 rfl) rfl
theorem q1219 : (Jvm.Cond.instanceMethod ({ cls := "WatchStack$Told", name := "isUnder", desc := "(II)Z" } : Jvm.MethodName)) ∈ lw_all := lw_g (lw_at lw_m5 123 rfl) rfl
theorem q1220 : (Jvm.Cond.selects "WatchStack$Told" ({ cls := "WatchStack$Told", name := "isUnder", desc := "(II)Z" } : Jvm.MethodName) ({ cls := "WatchStack$Told", name := "isUnder", desc := "(II)Z" } : Jvm.MethodName)) ∈ lw_all := lw_g (lw_at lw_m5 124 rfl) rfl
theorem q1221 : (Jvm.Cond.code ({ cls := "WatchStack$Told", name := "isUnder", desc := "(II)Z" } : Jvm.MethodName) prog_14_method_4_code (4 : Nat) (Option.some Jvm.ClassFile.FieldType.boolean)) ∈ lw_all := lw_g (lw_at lw_m5 125 rfl) rfl
theorem q1559 : (Jvm.Cond.instanceMethod ({ cls := "WatchStack$Told", name := "same", desc := "()LWatchStack$Told;" } : Jvm.MethodName)) ∈ lw_all := lw_g (lw_at lw_m6 223 rfl) rfl
theorem q1560 : (Jvm.Cond.selects "WatchStack$Told" ({ cls := "WatchStack$Told", name := "same", desc := "()LWatchStack$Told;" } : Jvm.MethodName) ({ cls := "WatchStack$Told", name := "same", desc := "()LWatchStack$Told;" } : Jvm.MethodName)) ∈ lw_all := lw_g (lw_at lw_m6 224 rfl) rfl
theorem q1561 : (Jvm.Cond.code ({ cls := "WatchStack$Told", name := "same", desc := "()LWatchStack$Told;" } : Jvm.MethodName) prog_14_method_3_code (2 : Nat) (Option.some (Jvm.ClassFile.FieldType.object "WatchStack$Told"))) ∈ lw_all := lw_g (lw_at lw_m6 225 rfl) rfl
theorem q1562 : (Jvm.Cond.classLink "WatchStack$Told" (15 : Nat) "WatchStack$Told") ∈ lw_all := lw_g (lw_at lw_m6 226 rfl) rfl
theorem q1563 : (Jvm.Cond.methodLink "WatchStack$Told" (31 : Nat) ({ cls := "WatchStack$Told", name := "<init>", desc := "()V" } : Jvm.MethodName)) ∈ lw_all := lw_g (lw_at lw_m6 227 rfl) rfl
theorem q1564 : (Jvm.Cond.methodLink "WatchStack$Told" (32 : Nat) ({ cls := "java/util/ArrayList", name := "addAll", desc := "(Ljava/util/Collection;)Z" } : Jvm.MethodName)) ∈ lw_all := lw_g (lw_at lw_m6 228 rfl) rfl
theorem q1578 : (Jvm.Cond.methodLink "WatchStack$Told" (36 : Nat) ({ cls := "java/lang/System", name := "arraycopy", desc := "(Ljava/lang/Object;ILjava/lang/Object;II)V" } : Jvm.MethodName)) ∈ lw_all := lw_g (lw_at lw_m7 2 rfl) rfl
theorem q2364 : (Jvm.Cond.castable "WatchStack$Told" "java/lang/Object") ∈ lw_tbl := lw_at lw_m10 68 rfl
theorem in_X1 : ∀ w ∈ wsX10, w ∈ lw_all := lw_in wsX10 [244, 246, 248, 250, 252, 254, 256, 258, 260] (by decide +kernel) (by decide +kernel)

/-! WatchStack$Rung -/
set_option maxRecDepth 100000
def RX2 : String := "WatchStack$Rung"
def TX2 : u_T := fun k => match k with
  | _ => ("WatchStack$Rung", "this$0", "LWatchStack;", true)
def tyX2 : Nat → FieldType := fun k => match k with
  | _ => .object "WatchStack"
abbrev wsX20 : List Cond := u_ws RX2 TX2 1
theorem nmX2 : ∀ a, a < 1 → ∀ b, b < 1 → a ≠ b → (TX2 a).2.1 ≠ (TX2 b).2.1 := by decide +kernel
theorem tyX2_ok : ∀ k, k < 1 → parseFieldDescriptor (TX2 k).2.2.1 = some (tyX2 k) := by decide +kernel
abbrev cX2_init : ByteArray := prog_11_method_1_code
def yX2_init : MethodName := ⟨RX2, "<init>", "(LWatchStack;)V"⟩
def dkwX2_init_0 : List UInt8 := [42, 43, 181, 0, 1, 42, 183, 0, 7, 177]
abbrev dktX2_init_0 : List UInt8 := dkwX2_init_0 ++ []
theorem dksX2_init_0 : cX2_init.data.toList.drop 0 = dktX2_init_0 := by decide +kernel
theorem dX2_init_0 : decode cX2_init 0 = .ok (.aload_n 0, 1) := dk_42 (dk_at dksX2_init_0 0 rfl rfl)
theorem dX2_init_1 : decode cX2_init 1 = .ok (.aload_n 1, 1) := dk_43 (dk_at dksX2_init_0 1 rfl rfl)
theorem dX2_init_2 : decode cX2_init 2 = .ok (.putfield 1, 3) := dk_181 0 1 (dk_at dksX2_init_0 2 rfl rfl)
theorem dX2_init_5 : decode cX2_init 5 = .ok (.aload_n 0, 1) := dk_42 (dk_at dksX2_init_0 5 rfl rfl)
theorem dX2_init_6 : decode cX2_init 6 = .ok (.invokespecial 7, 3) := dk_183 0 7 (dk_at dksX2_init_0 6 rfl rfl)
theorem dX2_init_9 : decode cX2_init 9 = .ok (.return_, 1) := dk_177 (dk_at dksX2_init_0 9 rfl rfl)
abbrev cX2_acts : ByteArray := prog_11_method_2_code
def yX2_acts : MethodName := ⟨RX2, "acts", "(II)V"⟩
def dkwX2_acts_0 : List UInt8 := [42, 27, 182, 0, 13, 177]
abbrev dktX2_acts_0 : List UInt8 := dkwX2_acts_0 ++ []
theorem dksX2_acts_0 : cX2_acts.data.toList.drop 0 = dktX2_acts_0 := by decide +kernel
theorem dX2_acts_0 : decode cX2_acts 0 = .ok (.aload_n 0, 1) := dk_42 (dk_at dksX2_acts_0 0 rfl rfl)
theorem dX2_acts_1 : decode cX2_acts 1 = .ok (.iload_n 1, 1) := dk_27 (dk_at dksX2_acts_0 1 rfl rfl)
theorem dX2_acts_2 : decode cX2_acts 2 = .ok (.invokevirtual 13, 3) := dk_182 0 13 (dk_at dksX2_acts_0 2 rfl rfl)
theorem dX2_acts_5 : decode cX2_acts 5 = .ok (.return_, 1) := dk_177 (dk_at dksX2_acts_0 5 rfl rfl)
abbrev cX2_restarts : ByteArray := prog_11_method_3_code
def yX2_restarts : MethodName := ⟨RX2, "restarts", "(I)V"⟩
def dkwX2_restarts_1 : List UInt8 := [180, 0, 31, 108, 4, 96, 42, 180, 0, 1, 27, 182, 0, 27, 180, 0, 31, 104, 182, 0, 36, 177]
abbrev dktX2_restarts_1 : List UInt8 := dkwX2_restarts_1 ++ []
def dkwX2_restarts_0 : List UInt8 := [42, 180, 0, 1, 180, 0, 17, 27, 50, 42, 180, 0, 1, 180, 0, 23, 42, 180, 0, 1, 27, 182, 0, 27]
abbrev dktX2_restarts_0 : List UInt8 := dkwX2_restarts_0 ++ dktX2_restarts_1
theorem dksX2_restarts_0 : cX2_restarts.data.toList.drop 0 = dktX2_restarts_0 := by decide +kernel
theorem dksX2_restarts_1 : cX2_restarts.data.toList.drop 24 = dktX2_restarts_1 := dk_seg dksX2_restarts_0 24 rfl rfl
theorem dX2_restarts_0 : decode cX2_restarts 0 = .ok (.aload_n 0, 1) := dk_42 (dk_at dksX2_restarts_0 0 rfl rfl)
theorem dX2_restarts_1 : decode cX2_restarts 1 = .ok (.getfield 1, 3) := dk_180 0 1 (dk_at dksX2_restarts_0 1 rfl rfl)
theorem dX2_restarts_4 : decode cX2_restarts 4 = .ok (.getfield 17, 3) := dk_180 0 17 (dk_at dksX2_restarts_0 4 rfl rfl)
theorem dX2_restarts_7 : decode cX2_restarts 7 = .ok (.iload_n 1, 1) := dk_27 (dk_at dksX2_restarts_0 7 rfl rfl)
theorem dX2_restarts_8 : decode cX2_restarts 8 = .ok (.aaload, 1) := dk_50 (dk_at dksX2_restarts_0 8 rfl rfl)
theorem dX2_restarts_9 : decode cX2_restarts 9 = .ok (.aload_n 0, 1) := dk_42 (dk_at dksX2_restarts_0 9 rfl rfl)
theorem dX2_restarts_10 : decode cX2_restarts 10 = .ok (.getfield 1, 3) := dk_180 0 1 (dk_at dksX2_restarts_0 10 rfl rfl)
theorem dX2_restarts_13 : decode cX2_restarts 13 = .ok (.getfield 23, 3) := dk_180 0 23 (dk_at dksX2_restarts_0 13 rfl rfl)
theorem dX2_restarts_16 : decode cX2_restarts 16 = .ok (.aload_n 0, 1) := dk_42 (dk_at dksX2_restarts_0 16 rfl rfl)
theorem dX2_restarts_17 : decode cX2_restarts 17 = .ok (.getfield 1, 3) := dk_180 0 1 (dk_at dksX2_restarts_0 17 rfl rfl)
theorem dX2_restarts_20 : decode cX2_restarts 20 = .ok (.iload_n 1, 1) := dk_27 (dk_at dksX2_restarts_0 20 rfl rfl)
theorem dX2_restarts_21 : decode cX2_restarts 21 = .ok (.invokevirtual 27, 3) := dk_182 0 27 (dk_at dksX2_restarts_0 21 rfl rfl)
theorem dX2_restarts_24 : decode cX2_restarts 24 = .ok (.getfield 31, 3) := dk_180 0 31 (dk_at dksX2_restarts_1 0 rfl rfl)
theorem dX2_restarts_27 : decode cX2_restarts 27 = .ok (.idiv, 1) := dk_108 (dk_at dksX2_restarts_1 3 rfl rfl)
theorem dX2_restarts_28 : decode cX2_restarts 28 = .ok (.iconst 1, 1) := dk_4 (dk_at dksX2_restarts_1 4 rfl rfl)
theorem dX2_restarts_29 : decode cX2_restarts 29 = .ok (.iadd, 1) := dk_96 (dk_at dksX2_restarts_1 5 rfl rfl)
theorem dX2_restarts_30 : decode cX2_restarts 30 = .ok (.aload_n 0, 1) := dk_42 (dk_at dksX2_restarts_1 6 rfl rfl)
theorem dX2_restarts_31 : decode cX2_restarts 31 = .ok (.getfield 1, 3) := dk_180 0 1 (dk_at dksX2_restarts_1 7 rfl rfl)
theorem dX2_restarts_34 : decode cX2_restarts 34 = .ok (.iload_n 1, 1) := dk_27 (dk_at dksX2_restarts_1 10 rfl rfl)
theorem dX2_restarts_35 : decode cX2_restarts 35 = .ok (.invokevirtual 27, 3) := dk_182 0 27 (dk_at dksX2_restarts_1 11 rfl rfl)
theorem dX2_restarts_38 : decode cX2_restarts 38 = .ok (.getfield 31, 3) := dk_180 0 31 (dk_at dksX2_restarts_1 14 rfl rfl)
theorem dX2_restarts_41 : decode cX2_restarts 41 = .ok (.imul, 1) := dk_104 (dk_at dksX2_restarts_1 17 rfl rfl)
theorem dX2_restarts_42 : decode cX2_restarts 42 = .ok (.invokevirtual 36, 3) := dk_182 0 36 (dk_at dksX2_restarts_1 18 rfl rfl)
theorem dX2_restarts_45 : decode cX2_restarts 45 = .ok (.return_, 1) := dk_177 (dk_at dksX2_restarts_1 21 rfl rfl)
theorem q142 : (Jvm.Cond.initialized "WatchStack$Rung") ∈ lw_all := lw_g (lw_at lw_m1 6 rfl) rfl
theorem q267 : (Jvm.Cond.instantiable "WatchStack$Rung" (1 : Nat)) ∈ lw_all := lw_g (lw_at lw_m1 131 rfl) rfl
theorem q269 : (Jvm.Cond.instanceMethod ({ cls := "WatchStack$Rung", name := "<init>", desc := "(LWatchStack;)V" } : Jvm.MethodName)) ∈ lw_all := lw_g (lw_at lw_m1 133 rfl) rfl
theorem q270 : (Jvm.Cond.code ({ cls := "WatchStack$Rung", name := "<init>", desc := "(LWatchStack;)V" } : Jvm.MethodName) prog_11_method_1_code (2 : Nat) (Option.none : Option Jvm.ClassFile.FieldType)) ∈ lw_all := lw_g (lw_at lw_m1 134 rfl) rfl
theorem q271 : (Jvm.Cond.methodLink "WatchStack$Rung" (7 : Nat) ({ cls := "java/lang/Object", name := "<init>", desc := "()V" } : Jvm.MethodName)) ∈ lw_all := lw_g (lw_at lw_m1 135 rfl) rfl
theorem q272 : (Jvm.Cond.fieldLink "WatchStack$Rung" (1 : Nat) "WatchStack$Rung" "this$0" "LWatchStack;") ∈ lw_all := lw_g (lw_at lw_m1 136 rfl) rfl
theorem q273 : (Jvm.Cond.laysFinal "WatchStack$Rung" "WatchStack$Rung" "this$0" "LWatchStack;") ∈ lw_all := lw_g (lw_at lw_m1 137 rfl) rfl
theorem q274 : (Jvm.Cond.soleField "WatchStack$Rung" "this$0") ∈ lw_all := lw_g (lw_at lw_m1 138 rfl) rfl
theorem q275 : (Jvm.Cond.superclass "WatchStack$Rung" "java/lang/Object") ∈ lw_all := lw_g (lw_at lw_m1 139 rfl) rfl
theorem q463 : (Jvm.Cond.fieldLinkNest "WatchStack$Rung" (17 : Nat) "WatchStack" "lives" "[LWatchStack$Life;" "WatchStack") ∈ lw_tbl := lw_at lw_m2 87 rfl
theorem q480 : (Jvm.Cond.fieldLinkNest "WatchStack$Rung" (23 : Nat) "WatchStack" "tick" "I" "WatchStack") ∈ lw_tbl := lw_at lw_m2 104 rfl
theorem q821 : (Jvm.Cond.fieldLinkNest "WatchStack$Rung" (31 : Nat) "WatchStack$Task" "period" "I" "WatchStack") ∈ lw_tbl := lw_at lw_m3 205 rfl
theorem q900 : (Jvm.Cond.selects "WatchStack$Rung" ({ cls := "java/lang/Object", name := "getClass", desc := "()Ljava/lang/Class;" } : Jvm.MethodName) ({ cls := "java/lang/Object", name := "getClass", desc := "()Ljava/lang/Class;" } : Jvm.MethodName)) ∈ lw_all := lw_g (lw_at lw_m4 44 rfl) rfl
theorem q1209 : (Jvm.Cond.instanceMethod ({ cls := "WatchStack$Rung", name := "acts", desc := "(II)V" } : Jvm.MethodName)) ∈ lw_all := lw_g (lw_at lw_m5 113 rfl) rfl
theorem q1210 : (Jvm.Cond.selects "WatchStack$Rung" ({ cls := "WatchStack$Rung", name := "acts", desc := "(II)V" } : Jvm.MethodName) ({ cls := "WatchStack$Rung", name := "acts", desc := "(II)V" } : Jvm.MethodName)) ∈ lw_all := lw_g (lw_at lw_m5 114 rfl) rfl
theorem q1211 : (Jvm.Cond.sameMethod "WatchStack$Rung" "WatchStack$Rung" "acts" "(II)V") ∈ lw_all := lw_g (lw_at lw_m5 115 rfl) rfl
theorem q1228 : (Jvm.Cond.code ({ cls := "WatchStack$Rung", name := "acts", desc := "(II)V" } : Jvm.MethodName) prog_11_method_2_code (3 : Nat) (Option.none : Option Jvm.ClassFile.FieldType)) ∈ lw_all := lw_g (lw_at lw_m5 132 rfl) rfl
theorem q1229 : (Jvm.Cond.methodLink "WatchStack$Rung" (13 : Nat) ({ cls := "WatchStack$Rung", name := "restarts", desc := "(I)V" } : Jvm.MethodName)) ∈ lw_all := lw_g (lw_at lw_m5 133 rfl) rfl
theorem q1230 : (Jvm.Cond.instanceMethod ({ cls := "WatchStack$Rung", name := "restarts", desc := "(I)V" } : Jvm.MethodName)) ∈ lw_all := lw_g (lw_at lw_m5 134 rfl) rfl
theorem q1231 : (Jvm.Cond.selects "WatchStack$Rung" ({ cls := "WatchStack$Rung", name := "restarts", desc := "(I)V" } : Jvm.MethodName) ({ cls := "WatchStack$Rung", name := "restarts", desc := "(I)V" } : Jvm.MethodName)) ∈ lw_all := lw_g (lw_at lw_m5 135 rfl) rfl
theorem q1232 : (Jvm.Cond.sameMethod "WatchStack$Rung" "WatchStack$Rung" "restarts" "(I)V") ∈ lw_all := lw_g (lw_at lw_m5 136 rfl) rfl
theorem q1236 : (Jvm.Cond.code ({ cls := "WatchStack$Rung", name := "restarts", desc := "(I)V" } : Jvm.MethodName) prog_11_method_3_code (2 : Nat) (Option.none : Option Jvm.ClassFile.FieldType)) ∈ lw_all := lw_g (lw_at lw_m5 140 rfl) rfl
theorem q1237 : (Jvm.Cond.methodLinkNest "WatchStack$Rung" (27 : Nat) ({ cls := "WatchStack", name := "taskOf", desc := "(I)LWatchStack$Task;" } : Jvm.MethodName) "WatchStack") ∈ lw_tbl := lw_at lw_m5 141 rfl
theorem q1238 : (Jvm.Cond.methodLink "WatchStack$Rung" (36 : Nat) ({ cls := "WatchStack$Life", name := "begins", desc := "(I)V" } : Jvm.MethodName)) ∈ lw_all := lw_g (lw_at lw_m5 142 rfl) rfl
theorem q2365 : (Jvm.Cond.castable "WatchStack$Rung" "java/lang/Object") ∈ lw_tbl := lw_at lw_m10 69 rfl
theorem in_X2 : ∀ w ∈ wsX20, w ∈ lw_all := lw_in wsX20 [273] (by decide +kernel) (by decide +kernel)

/-! WatchStack$GroupRung -/
set_option maxRecDepth 100000
def RX3 : String := "WatchStack$GroupRung"
def TX3 : u_T := fun k => match k with
  | 0 => ("WatchStack$Rung", "this$0", "LWatchStack;", true)
  | _ => ("WatchStack$GroupRung", "this$0", "LWatchStack;", true)
def tyX3 : Nat → FieldType := fun k => match k with
  | 0 => .object "WatchStack"
  | _ => .object "WatchStack"
abbrev wsX30 : List Cond := u_ws RX3 TX3 2
-- two fields of one name: no nmX3
theorem tyX3_ok : ∀ k, k < 2 → parseFieldDescriptor (TX3 k).2.2.1 = some (tyX3 k) := by decide +kernel
abbrev cX3_init : ByteArray := prog_4_method_1_code
def yX3_init : MethodName := ⟨RX3, "<init>", "(LWatchStack;)V"⟩
def dkwX3_init_0 : List UInt8 := [42, 43, 181, 0, 1, 42, 43, 183, 0, 7, 177]
abbrev dktX3_init_0 : List UInt8 := dkwX3_init_0 ++ []
theorem dksX3_init_0 : cX3_init.data.toList.drop 0 = dktX3_init_0 := by decide +kernel
theorem dX3_init_0 : decode cX3_init 0 = .ok (.aload_n 0, 1) := dk_42 (dk_at dksX3_init_0 0 rfl rfl)
theorem dX3_init_1 : decode cX3_init 1 = .ok (.aload_n 1, 1) := dk_43 (dk_at dksX3_init_0 1 rfl rfl)
theorem dX3_init_2 : decode cX3_init 2 = .ok (.putfield 1, 3) := dk_181 0 1 (dk_at dksX3_init_0 2 rfl rfl)
theorem dX3_init_5 : decode cX3_init 5 = .ok (.aload_n 0, 1) := dk_42 (dk_at dksX3_init_0 5 rfl rfl)
theorem dX3_init_6 : decode cX3_init 6 = .ok (.aload_n 1, 1) := dk_43 (dk_at dksX3_init_0 6 rfl rfl)
theorem dX3_init_7 : decode cX3_init 7 = .ok (.invokespecial 7, 3) := dk_183 0 7 (dk_at dksX3_init_0 7 rfl rfl)
theorem dX3_init_10 : decode cX3_init 10 = .ok (.return_, 1) := dk_177 (dk_at dksX3_init_0 10 rfl rfl)
abbrev cX3_acts : ByteArray := prog_4_method_2_code
def yX3_acts : MethodName := ⟨RX3, "acts", "(II)V"⟩
def dkwX3_acts_1 : List UInt8 := [28, 160, 0, 9, 42, 29, 28, 183, 0, 29, 132, 3, 1, 167, 255, 221, 177]
abbrev dktX3_acts_1 : List UInt8 := dkwX3_acts_1 ++ []
def dkwX3_acts_0 : List UInt8 := [3, 62, 29, 42, 180, 0, 1, 182, 0, 13, 162, 0, 30, 42, 180, 0, 1, 29, 182, 0, 19, 180, 0, 23]
abbrev dktX3_acts_0 : List UInt8 := dkwX3_acts_0 ++ dktX3_acts_1
theorem dksX3_acts_0 : cX3_acts.data.toList.drop 0 = dktX3_acts_0 := by decide +kernel
theorem dksX3_acts_1 : cX3_acts.data.toList.drop 24 = dktX3_acts_1 := dk_seg dksX3_acts_0 24 rfl rfl
theorem dX3_acts_0 : decode cX3_acts 0 = .ok (.iconst 0, 1) := dk_3 (dk_at dksX3_acts_0 0 rfl rfl)
theorem dX3_acts_1 : decode cX3_acts 1 = .ok (.istore_n 3, 1) := dk_62 (dk_at dksX3_acts_0 1 rfl rfl)
theorem dX3_acts_2 : decode cX3_acts 2 = .ok (.iload_n 3, 1) := dk_29 (dk_at dksX3_acts_0 2 rfl rfl)
theorem dX3_acts_3 : decode cX3_acts 3 = .ok (.aload_n 0, 1) := dk_42 (dk_at dksX3_acts_0 3 rfl rfl)
theorem dX3_acts_4 : decode cX3_acts 4 = .ok (.getfield 1, 3) := dk_180 0 1 (dk_at dksX3_acts_0 4 rfl rfl)
theorem dX3_acts_7 : decode cX3_acts 7 = .ok (.invokevirtual 13, 3) := dk_182 0 13 (dk_at dksX3_acts_0 7 rfl rfl)
theorem dX3_acts_10 : decode cX3_acts 10 = .ok (.if_icmp .ge 30, 3) := dk_162 0 30 (dk_at dksX3_acts_0 10 rfl rfl)
theorem dX3_acts_13 : decode cX3_acts 13 = .ok (.aload_n 0, 1) := dk_42 (dk_at dksX3_acts_0 13 rfl rfl)
theorem dX3_acts_14 : decode cX3_acts 14 = .ok (.getfield 1, 3) := dk_180 0 1 (dk_at dksX3_acts_0 14 rfl rfl)
theorem dX3_acts_17 : decode cX3_acts 17 = .ok (.iload_n 3, 1) := dk_29 (dk_at dksX3_acts_0 17 rfl rfl)
theorem dX3_acts_18 : decode cX3_acts 18 = .ok (.invokevirtual 19, 3) := dk_182 0 19 (dk_at dksX3_acts_0 18 rfl rfl)
theorem dX3_acts_21 : decode cX3_acts 21 = .ok (.getfield 23, 3) := dk_180 0 23 (dk_at dksX3_acts_0 21 rfl rfl)
theorem dX3_acts_24 : decode cX3_acts 24 = .ok (.iload_n 2, 1) := dk_28 (dk_at dksX3_acts_1 0 rfl rfl)
theorem dX3_acts_25 : decode cX3_acts 25 = .ok (.if_icmp .ne 9, 3) := dk_160 0 9 (dk_at dksX3_acts_1 1 rfl rfl)
theorem dX3_acts_28 : decode cX3_acts 28 = .ok (.aload_n 0, 1) := dk_42 (dk_at dksX3_acts_1 4 rfl rfl)
theorem dX3_acts_29 : decode cX3_acts 29 = .ok (.iload_n 3, 1) := dk_29 (dk_at dksX3_acts_1 5 rfl rfl)
theorem dX3_acts_30 : decode cX3_acts 30 = .ok (.iload_n 2, 1) := dk_28 (dk_at dksX3_acts_1 6 rfl rfl)
theorem dX3_acts_31 : decode cX3_acts 31 = .ok (.invokespecial 29, 3) := dk_183 0 29 (dk_at dksX3_acts_1 7 rfl rfl)
theorem dX3_acts_34 : decode cX3_acts 34 = .ok (.iinc 3 1, 3) := dk_132 3 1 (dk_at dksX3_acts_1 10 rfl rfl)
theorem dX3_acts_37 : decode cX3_acts 37 = .ok (.goto (-35), 3) := dk_167 255 221 (dk_at dksX3_acts_1 13 rfl rfl)
theorem dX3_acts_40 : decode cX3_acts 40 = .ok (.return_, 1) := dk_177 (dk_at dksX3_acts_1 16 rfl rfl)
theorem q143 : (Jvm.Cond.initialized "WatchStack$GroupRung") ∈ lw_all := lw_g (lw_at lw_m1 7 rfl) rfl
theorem q278 : (Jvm.Cond.instantiable "WatchStack$GroupRung" (2 : Nat)) ∈ lw_all := lw_g (lw_at lw_m1 142 rfl) rfl
theorem q280 : (Jvm.Cond.instanceMethod ({ cls := "WatchStack$GroupRung", name := "<init>", desc := "(LWatchStack;)V" } : Jvm.MethodName)) ∈ lw_all := lw_g (lw_at lw_m1 144 rfl) rfl
theorem q281 : (Jvm.Cond.code ({ cls := "WatchStack$GroupRung", name := "<init>", desc := "(LWatchStack;)V" } : Jvm.MethodName) prog_4_method_1_code (2 : Nat) (Option.none : Option Jvm.ClassFile.FieldType)) ∈ lw_all := lw_g (lw_at lw_m1 145 rfl) rfl
theorem q282 : (Jvm.Cond.methodLinkNest "WatchStack$GroupRung" (7 : Nat) ({ cls := "WatchStack$Rung", name := "<init>", desc := "(LWatchStack;)V" } : Jvm.MethodName) "WatchStack") ∈ lw_tbl := lw_at lw_m1 146 rfl
theorem q283 : (Jvm.Cond.fieldLink "WatchStack$GroupRung" (1 : Nat) "WatchStack$GroupRung" "this$0" "LWatchStack;") ∈ lw_all := lw_g (lw_at lw_m1 147 rfl) rfl
theorem q284 : (Jvm.Cond.laysFinal "WatchStack$GroupRung" "WatchStack$GroupRung" "this$0" "LWatchStack;") ∈ lw_all := lw_g (lw_at lw_m1 148 rfl) rfl
theorem q285 : (Jvm.Cond.soleField "WatchStack$GroupRung" "this$0") ∈ lw_all := lw_g (lw_at lw_m1 149 rfl) rfl
theorem q286 : (Jvm.Cond.laysFinal "WatchStack$GroupRung" "WatchStack$Rung" "this$0" "LWatchStack;") ∈ lw_all := lw_g (lw_at lw_m1 150 rfl) rfl
theorem q287 : (Jvm.Cond.superclass "WatchStack$GroupRung" "WatchStack$Rung") ∈ lw_all := lw_g (lw_at lw_m1 151 rfl) rfl
theorem q818 : (Jvm.Cond.fieldLinkNest "WatchStack$GroupRung" (23 : Nat) "WatchStack$Task" "watcher" "I" "WatchStack") ∈ lw_tbl := lw_at lw_m3 202 rfl
theorem q894 : (Jvm.Cond.selects "WatchStack$GroupRung" ({ cls := "java/lang/Object", name := "getClass", desc := "()Ljava/lang/Class;" } : Jvm.MethodName) ({ cls := "java/lang/Object", name := "getClass", desc := "()Ljava/lang/Class;" } : Jvm.MethodName)) ∈ lw_all := lw_g (lw_at lw_m4 38 rfl) rfl
theorem q1223 : (Jvm.Cond.instanceMethod ({ cls := "WatchStack$GroupRung", name := "acts", desc := "(II)V" } : Jvm.MethodName)) ∈ lw_all := lw_g (lw_at lw_m5 127 rfl) rfl
theorem q1224 : (Jvm.Cond.code ({ cls := "WatchStack$GroupRung", name := "acts", desc := "(II)V" } : Jvm.MethodName) prog_4_method_2_code (4 : Nat) (Option.none : Option Jvm.ClassFile.FieldType)) ∈ lw_all := lw_g (lw_at lw_m5 128 rfl) rfl
theorem q1225 : (Jvm.Cond.methodLinkNest "WatchStack$GroupRung" (13 : Nat) ({ cls := "WatchStack", name := "tasks", desc := "()I" } : Jvm.MethodName) "WatchStack") ∈ lw_tbl := lw_at lw_m5 129 rfl
theorem q1226 : (Jvm.Cond.methodLinkNest "WatchStack$GroupRung" (19 : Nat) ({ cls := "WatchStack", name := "taskOf", desc := "(I)LWatchStack$Task;" } : Jvm.MethodName) "WatchStack") ∈ lw_tbl := lw_at lw_m5 130 rfl
theorem q1227 : (Jvm.Cond.methodLink "WatchStack$GroupRung" (29 : Nat) ({ cls := "WatchStack$Rung", name := "acts", desc := "(II)V" } : Jvm.MethodName)) ∈ lw_all := lw_g (lw_at lw_m5 131 rfl) rfl
theorem q1234 : (Jvm.Cond.selects "WatchStack$GroupRung" ({ cls := "WatchStack$Rung", name := "restarts", desc := "(I)V" } : Jvm.MethodName) ({ cls := "WatchStack$Rung", name := "restarts", desc := "(I)V" } : Jvm.MethodName)) ∈ lw_all := lw_g (lw_at lw_m5 138 rfl) rfl
theorem q1254 : (Jvm.Cond.selects "WatchStack$GroupRung" ({ cls := "WatchStack$Rung", name := "acts", desc := "(II)V" } : Jvm.MethodName) ({ cls := "WatchStack$GroupRung", name := "acts", desc := "(II)V" } : Jvm.MethodName)) ∈ lw_all := lw_g (lw_at lw_m5 158 rfl) rfl
theorem q2362 : (Jvm.Cond.sameMethod "WatchStack$GroupRung" "WatchStack$GroupRung" "acts" "(II)V") ∈ lw_all := lw_g (lw_at lw_m10 66 rfl) rfl
theorem q2372 : (Jvm.Cond.castable "WatchStack$GroupRung" "java/lang/Object") ∈ lw_tbl := lw_at lw_m10 76 rfl
theorem q2384 : (Jvm.Cond.castable "WatchStack$GroupRung" "WatchStack$Rung") ∈ lw_tbl := lw_at lw_m10 88 rfl
theorem in_X3 : ∀ w ∈ wsX30, w ∈ lw_all := lw_in wsX30 [286, 284] (by decide +kernel) (by decide +kernel)

/-! WatchStack$WatcherRung -/
set_option maxRecDepth 100000
def RX4 : String := "WatchStack$WatcherRung"
def TX4 : u_T := fun k => match k with
  | 0 => ("WatchStack$Rung", "this$0", "LWatchStack;", true)
  | 1 => ("WatchStack$GroupRung", "this$0", "LWatchStack;", true)
  | _ => ("WatchStack$WatcherRung", "this$0", "LWatchStack;", true)
def tyX4 : Nat → FieldType := fun k => match k with
  | 0 => .object "WatchStack"
  | 1 => .object "WatchStack"
  | _ => .object "WatchStack"
abbrev wsX40 : List Cond := u_ws RX4 TX4 3
-- two fields of one name: no nmX4
theorem tyX4_ok : ∀ k, k < 3 → parseFieldDescriptor (TX4 k).2.2.1 = some (tyX4 k) := by decide +kernel
abbrev cX4_init : ByteArray := prog_16_method_1_code
def yX4_init : MethodName := ⟨RX4, "<init>", "(LWatchStack;)V"⟩
def dkwX4_init_0 : List UInt8 := [42, 43, 181, 0, 1, 42, 43, 183, 0, 7, 177]
abbrev dktX4_init_0 : List UInt8 := dkwX4_init_0 ++ []
theorem dksX4_init_0 : cX4_init.data.toList.drop 0 = dktX4_init_0 := by decide +kernel
theorem dX4_init_0 : decode cX4_init 0 = .ok (.aload_n 0, 1) := dk_42 (dk_at dksX4_init_0 0 rfl rfl)
theorem dX4_init_1 : decode cX4_init 1 = .ok (.aload_n 1, 1) := dk_43 (dk_at dksX4_init_0 1 rfl rfl)
theorem dX4_init_2 : decode cX4_init 2 = .ok (.putfield 1, 3) := dk_181 0 1 (dk_at dksX4_init_0 2 rfl rfl)
theorem dX4_init_5 : decode cX4_init 5 = .ok (.aload_n 0, 1) := dk_42 (dk_at dksX4_init_0 5 rfl rfl)
theorem dX4_init_6 : decode cX4_init 6 = .ok (.aload_n 1, 1) := dk_43 (dk_at dksX4_init_0 6 rfl rfl)
theorem dX4_init_7 : decode cX4_init 7 = .ok (.invokespecial 7, 3) := dk_183 0 7 (dk_at dksX4_init_0 7 rfl rfl)
theorem dX4_init_10 : decode cX4_init 10 = .ok (.return_, 1) := dk_177 (dk_at dksX4_init_0 10 rfl rfl)
abbrev cX4_acts : ByteArray := prog_16_method_2_code
def yX4_acts : MethodName := ⟨RX4, "acts", "(II)V"⟩
def dkwX4_acts_2 : List UInt8 := [42, 180, 0, 1, 180, 0, 37, 79, 132, 3, 1, 167, 255, 199, 177]
abbrev dktX4_acts_2 : List UInt8 := dkwX4_acts_2 ++ []
def dkwX4_acts_1 : List UInt8 := [28, 182, 0, 25, 154, 0, 6, 167, 0, 25, 42, 27, 29, 183, 0, 29, 42, 180, 0, 1, 180, 0, 33, 29]
abbrev dktX4_acts_1 : List UInt8 := dkwX4_acts_1 ++ dktX4_acts_2
def dkwX4_acts_0 : List UInt8 := [3, 62, 29, 42, 180, 0, 1, 180, 0, 13, 180, 0, 19, 162, 0, 49, 42, 180, 0, 1, 180, 0, 13, 29]
abbrev dktX4_acts_0 : List UInt8 := dkwX4_acts_0 ++ dktX4_acts_1
theorem dksX4_acts_0 : cX4_acts.data.toList.drop 0 = dktX4_acts_0 := by decide +kernel
theorem dksX4_acts_1 : cX4_acts.data.toList.drop 24 = dktX4_acts_1 := dk_seg dksX4_acts_0 24 rfl rfl
theorem dksX4_acts_2 : cX4_acts.data.toList.drop 48 = dktX4_acts_2 := dk_seg dksX4_acts_1 24 rfl rfl
theorem dX4_acts_0 : decode cX4_acts 0 = .ok (.iconst 0, 1) := dk_3 (dk_at dksX4_acts_0 0 rfl rfl)
theorem dX4_acts_1 : decode cX4_acts 1 = .ok (.istore_n 3, 1) := dk_62 (dk_at dksX4_acts_0 1 rfl rfl)
theorem dX4_acts_2 : decode cX4_acts 2 = .ok (.iload_n 3, 1) := dk_29 (dk_at dksX4_acts_0 2 rfl rfl)
theorem dX4_acts_3 : decode cX4_acts 3 = .ok (.aload_n 0, 1) := dk_42 (dk_at dksX4_acts_0 3 rfl rfl)
theorem dX4_acts_4 : decode cX4_acts 4 = .ok (.getfield 1, 3) := dk_180 0 1 (dk_at dksX4_acts_0 4 rfl rfl)
theorem dX4_acts_7 : decode cX4_acts 7 = .ok (.getfield 13, 3) := dk_180 0 13 (dk_at dksX4_acts_0 7 rfl rfl)
theorem dX4_acts_10 : decode cX4_acts 10 = .ok (.getfield 19, 3) := dk_180 0 19 (dk_at dksX4_acts_0 10 rfl rfl)
theorem dX4_acts_13 : decode cX4_acts 13 = .ok (.if_icmp .ge 49, 3) := dk_162 0 49 (dk_at dksX4_acts_0 13 rfl rfl)
theorem dX4_acts_16 : decode cX4_acts 16 = .ok (.aload_n 0, 1) := dk_42 (dk_at dksX4_acts_0 16 rfl rfl)
theorem dX4_acts_17 : decode cX4_acts 17 = .ok (.getfield 1, 3) := dk_180 0 1 (dk_at dksX4_acts_0 17 rfl rfl)
theorem dX4_acts_20 : decode cX4_acts 20 = .ok (.getfield 13, 3) := dk_180 0 13 (dk_at dksX4_acts_0 20 rfl rfl)
theorem dX4_acts_23 : decode cX4_acts 23 = .ok (.iload_n 3, 1) := dk_29 (dk_at dksX4_acts_0 23 rfl rfl)
theorem dX4_acts_24 : decode cX4_acts 24 = .ok (.iload_n 2, 1) := dk_28 (dk_at dksX4_acts_1 0 rfl rfl)
theorem dX4_acts_25 : decode cX4_acts 25 = .ok (.invokevirtual 25, 3) := dk_182 0 25 (dk_at dksX4_acts_1 1 rfl rfl)
theorem dX4_acts_28 : decode cX4_acts 28 = .ok (.ifCond .ne 6, 3) := dk_154 0 6 (dk_at dksX4_acts_1 4 rfl rfl)
theorem dX4_acts_31 : decode cX4_acts 31 = .ok (.goto 25, 3) := dk_167 0 25 (dk_at dksX4_acts_1 7 rfl rfl)
theorem dX4_acts_34 : decode cX4_acts 34 = .ok (.aload_n 0, 1) := dk_42 (dk_at dksX4_acts_1 10 rfl rfl)
theorem dX4_acts_35 : decode cX4_acts 35 = .ok (.iload_n 1, 1) := dk_27 (dk_at dksX4_acts_1 11 rfl rfl)
theorem dX4_acts_36 : decode cX4_acts 36 = .ok (.iload_n 3, 1) := dk_29 (dk_at dksX4_acts_1 12 rfl rfl)
theorem dX4_acts_37 : decode cX4_acts 37 = .ok (.invokespecial 29, 3) := dk_183 0 29 (dk_at dksX4_acts_1 13 rfl rfl)
theorem dX4_acts_40 : decode cX4_acts 40 = .ok (.aload_n 0, 1) := dk_42 (dk_at dksX4_acts_1 16 rfl rfl)
theorem dX4_acts_41 : decode cX4_acts 41 = .ok (.getfield 1, 3) := dk_180 0 1 (dk_at dksX4_acts_1 17 rfl rfl)
theorem dX4_acts_44 : decode cX4_acts 44 = .ok (.getfield 33, 3) := dk_180 0 33 (dk_at dksX4_acts_1 20 rfl rfl)
theorem dX4_acts_47 : decode cX4_acts 47 = .ok (.iload_n 3, 1) := dk_29 (dk_at dksX4_acts_1 23 rfl rfl)
theorem dX4_acts_48 : decode cX4_acts 48 = .ok (.aload_n 0, 1) := dk_42 (dk_at dksX4_acts_2 0 rfl rfl)
theorem dX4_acts_49 : decode cX4_acts 49 = .ok (.getfield 1, 3) := dk_180 0 1 (dk_at dksX4_acts_2 1 rfl rfl)
theorem dX4_acts_52 : decode cX4_acts 52 = .ok (.getfield 37, 3) := dk_180 0 37 (dk_at dksX4_acts_2 4 rfl rfl)
theorem dX4_acts_55 : decode cX4_acts 55 = .ok (.iastore, 1) := dk_79 (dk_at dksX4_acts_2 7 rfl rfl)
theorem dX4_acts_56 : decode cX4_acts 56 = .ok (.iinc 3 1, 3) := dk_132 3 1 (dk_at dksX4_acts_2 8 rfl rfl)
theorem dX4_acts_59 : decode cX4_acts 59 = .ok (.goto (-57), 3) := dk_167 255 199 (dk_at dksX4_acts_2 11 rfl rfl)
theorem dX4_acts_62 : decode cX4_acts 62 = .ok (.return_, 1) := dk_177 (dk_at dksX4_acts_2 14 rfl rfl)
theorem q144 : (Jvm.Cond.initialized "WatchStack$WatcherRung") ∈ lw_all := lw_g (lw_at lw_m1 8 rfl) rfl
theorem q234 : (Jvm.Cond.fieldLinkNest "WatchStack$WatcherRung" (19 : Nat) "WatchStack$Told" "watchers" "I" "WatchStack") ∈ lw_tbl := lw_at lw_m1 98 rfl
theorem q289 : (Jvm.Cond.instantiable "WatchStack$WatcherRung" (3 : Nat)) ∈ lw_all := lw_g (lw_at lw_m1 153 rfl) rfl
theorem q291 : (Jvm.Cond.instanceMethod ({ cls := "WatchStack$WatcherRung", name := "<init>", desc := "(LWatchStack;)V" } : Jvm.MethodName)) ∈ lw_all := lw_g (lw_at lw_m1 155 rfl) rfl
theorem q292 : (Jvm.Cond.code ({ cls := "WatchStack$WatcherRung", name := "<init>", desc := "(LWatchStack;)V" } : Jvm.MethodName) prog_16_method_1_code (2 : Nat) (Option.none : Option Jvm.ClassFile.FieldType)) ∈ lw_all := lw_g (lw_at lw_m1 156 rfl) rfl
theorem q293 : (Jvm.Cond.methodLinkNest "WatchStack$WatcherRung" (7 : Nat) ({ cls := "WatchStack$GroupRung", name := "<init>", desc := "(LWatchStack;)V" } : Jvm.MethodName) "WatchStack") ∈ lw_tbl := lw_at lw_m1 157 rfl
theorem q294 : (Jvm.Cond.fieldLink "WatchStack$WatcherRung" (1 : Nat) "WatchStack$WatcherRung" "this$0" "LWatchStack;") ∈ lw_all := lw_g (lw_at lw_m1 158 rfl) rfl
theorem q295 : (Jvm.Cond.laysFinal "WatchStack$WatcherRung" "WatchStack$WatcherRung" "this$0" "LWatchStack;") ∈ lw_all := lw_g (lw_at lw_m1 159 rfl) rfl
theorem q296 : (Jvm.Cond.soleField "WatchStack$WatcherRung" "this$0") ∈ lw_all := lw_g (lw_at lw_m1 160 rfl) rfl
theorem q297 : (Jvm.Cond.laysFinal "WatchStack$WatcherRung" "WatchStack$GroupRung" "this$0" "LWatchStack;") ∈ lw_all := lw_g (lw_at lw_m1 161 rfl) rfl
theorem q298 : (Jvm.Cond.laysFinal "WatchStack$WatcherRung" "WatchStack$Rung" "this$0" "LWatchStack;") ∈ lw_all := lw_g (lw_at lw_m1 162 rfl) rfl
theorem q299 : (Jvm.Cond.superclass "WatchStack$WatcherRung" "WatchStack$GroupRung") ∈ lw_all := lw_g (lw_at lw_m1 163 rfl) rfl
theorem q450 : (Jvm.Cond.fieldLinkNest "WatchStack$WatcherRung" (13 : Nat) "WatchStack" "now" "LWatchStack$Told;" "WatchStack") ∈ lw_tbl := lw_at lw_m2 74 rfl
theorem q466 : (Jvm.Cond.fieldLinkNest "WatchStack$WatcherRung" (33 : Nat) "WatchStack" "woken" "[I" "WatchStack") ∈ lw_tbl := lw_at lw_m2 90 rfl
theorem q479 : (Jvm.Cond.fieldLinkNest "WatchStack$WatcherRung" (37 : Nat) "WatchStack" "tick" "I" "WatchStack") ∈ lw_tbl := lw_at lw_m2 103 rfl
theorem q905 : (Jvm.Cond.selects "WatchStack$WatcherRung" ({ cls := "java/lang/Object", name := "getClass", desc := "()Ljava/lang/Class;" } : Jvm.MethodName) ({ cls := "java/lang/Object", name := "getClass", desc := "()Ljava/lang/Class;" } : Jvm.MethodName)) ∈ lw_all := lw_g (lw_at lw_m4 49 rfl) rfl
theorem q1216 : (Jvm.Cond.instanceMethod ({ cls := "WatchStack$WatcherRung", name := "acts", desc := "(II)V" } : Jvm.MethodName)) ∈ lw_all := lw_g (lw_at lw_m5 120 rfl) rfl
theorem q1217 : (Jvm.Cond.code ({ cls := "WatchStack$WatcherRung", name := "acts", desc := "(II)V" } : Jvm.MethodName) prog_16_method_2_code (4 : Nat) (Option.none : Option Jvm.ClassFile.FieldType)) ∈ lw_all := lw_g (lw_at lw_m5 121 rfl) rfl
theorem q1218 : (Jvm.Cond.methodLink "WatchStack$WatcherRung" (25 : Nat) ({ cls := "WatchStack$Told", name := "isUnder", desc := "(II)Z" } : Jvm.MethodName)) ∈ lw_all := lw_g (lw_at lw_m5 122 rfl) rfl
theorem q1222 : (Jvm.Cond.methodLink "WatchStack$WatcherRung" (29 : Nat) ({ cls := "WatchStack$GroupRung", name := "acts", desc := "(II)V" } : Jvm.MethodName)) ∈ lw_all := lw_g (lw_at lw_m5 126 rfl) rfl
theorem q1235 : (Jvm.Cond.selects "WatchStack$WatcherRung" ({ cls := "WatchStack$Rung", name := "restarts", desc := "(I)V" } : Jvm.MethodName) ({ cls := "WatchStack$Rung", name := "restarts", desc := "(I)V" } : Jvm.MethodName)) ∈ lw_all := lw_g (lw_at lw_m5 139 rfl) rfl
theorem q1255 : (Jvm.Cond.selects "WatchStack$WatcherRung" ({ cls := "WatchStack$Rung", name := "acts", desc := "(II)V" } : Jvm.MethodName) ({ cls := "WatchStack$WatcherRung", name := "acts", desc := "(II)V" } : Jvm.MethodName)) ∈ lw_all := lw_g (lw_at lw_m5 159 rfl) rfl
theorem q2361 : (Jvm.Cond.sameMethod "WatchStack$WatcherRung" "WatchStack$WatcherRung" "acts" "(II)V") ∈ lw_all := lw_g (lw_at lw_m10 65 rfl) rfl
theorem q2373 : (Jvm.Cond.castable "WatchStack$WatcherRung" "java/lang/Object") ∈ lw_tbl := lw_at lw_m10 77 rfl
theorem q2385 : (Jvm.Cond.castable "WatchStack$WatcherRung" "WatchStack$Rung") ∈ lw_tbl := lw_at lw_m10 89 rfl
theorem in_X4 : ∀ w ∈ wsX40, w ∈ lw_all := lw_in wsX40 [298, 297, 295] (by decide +kernel) (by decide +kernel)

/-! WatchStack$BoardRung -/
set_option maxRecDepth 100000
def RX5 : String := "WatchStack$BoardRung"
def TX5 : u_T := fun k => match k with
  | 0 => ("WatchStack$Rung", "this$0", "LWatchStack;", true)
  | 1 => ("WatchStack$GroupRung", "this$0", "LWatchStack;", true)
  | 2 => ("WatchStack$WatcherRung", "this$0", "LWatchStack;", true)
  | _ => ("WatchStack$BoardRung", "this$0", "LWatchStack;", true)
def tyX5 : Nat → FieldType := fun k => match k with
  | 0 => .object "WatchStack"
  | 1 => .object "WatchStack"
  | 2 => .object "WatchStack"
  | _ => .object "WatchStack"
abbrev wsX50 : List Cond := u_ws RX5 TX5 4
-- two fields of one name: no nmX5
theorem tyX5_ok : ∀ k, k < 4 → parseFieldDescriptor (TX5 k).2.2.1 = some (tyX5 k) := by decide +kernel
abbrev cX5_init : ByteArray := prog_2_method_1_code
def yX5_init : MethodName := ⟨RX5, "<init>", "(LWatchStack;)V"⟩
def dkwX5_init_0 : List UInt8 := [42, 43, 181, 0, 3, 42, 43, 183, 0, 9, 177]
abbrev dktX5_init_0 : List UInt8 := dkwX5_init_0 ++ []
theorem dksX5_init_0 : cX5_init.data.toList.drop 0 = dktX5_init_0 := by decide +kernel
theorem dX5_init_0 : decode cX5_init 0 = .ok (.aload_n 0, 1) := dk_42 (dk_at dksX5_init_0 0 rfl rfl)
theorem dX5_init_1 : decode cX5_init 1 = .ok (.aload_n 1, 1) := dk_43 (dk_at dksX5_init_0 1 rfl rfl)
theorem dX5_init_2 : decode cX5_init 2 = .ok (.putfield 3, 3) := dk_181 0 3 (dk_at dksX5_init_0 2 rfl rfl)
theorem dX5_init_5 : decode cX5_init 5 = .ok (.aload_n 0, 1) := dk_42 (dk_at dksX5_init_0 5 rfl rfl)
theorem dX5_init_6 : decode cX5_init 6 = .ok (.aload_n 1, 1) := dk_43 (dk_at dksX5_init_0 6 rfl rfl)
theorem dX5_init_7 : decode cX5_init 7 = .ok (.invokespecial 9, 3) := dk_183 0 9 (dk_at dksX5_init_0 7 rfl rfl)
theorem dX5_init_10 : decode cX5_init 10 = .ok (.return_, 1) := dk_177 (dk_at dksX5_init_0 10 rfl rfl)
abbrev cX5_acts : ByteArray := prog_2_method_2_code
def yX5_acts : MethodName := ⟨RX5, "acts", "(II)V"⟩
def dkwX5_acts_2 : List UInt8 := [89, 183, 0, 31, 191]
abbrev dktX5_acts_2 : List UInt8 := dkwX5_acts_2 ++ []
def dkwX5_acts_1 : List UInt8 := [180, 0, 19, 6, 160, 0, 17, 42, 180, 0, 3, 42, 180, 0, 3, 180, 0, 23, 181, 0, 26, 187, 0, 29]
abbrev dktX5_acts_1 : List UInt8 := dkwX5_acts_1 ++ dktX5_acts_2
def dkwX5_acts_0 : List UInt8 := [42, 27, 3, 183, 0, 15, 42, 180, 0, 3, 89, 180, 0, 19, 4, 96, 181, 0, 19, 42, 180, 0, 3]
abbrev dktX5_acts_0 : List UInt8 := dkwX5_acts_0 ++ dktX5_acts_1
theorem dksX5_acts_0 : cX5_acts.data.toList.drop 0 = dktX5_acts_0 := by decide +kernel
theorem dksX5_acts_1 : cX5_acts.data.toList.drop 23 = dktX5_acts_1 := dk_seg dksX5_acts_0 23 rfl rfl
theorem dksX5_acts_2 : cX5_acts.data.toList.drop 47 = dktX5_acts_2 := dk_seg dksX5_acts_1 24 rfl rfl
theorem dX5_acts_0 : decode cX5_acts 0 = .ok (.aload_n 0, 1) := dk_42 (dk_at dksX5_acts_0 0 rfl rfl)
theorem dX5_acts_1 : decode cX5_acts 1 = .ok (.iload_n 1, 1) := dk_27 (dk_at dksX5_acts_0 1 rfl rfl)
theorem dX5_acts_2 : decode cX5_acts 2 = .ok (.iconst 0, 1) := dk_3 (dk_at dksX5_acts_0 2 rfl rfl)
theorem dX5_acts_3 : decode cX5_acts 3 = .ok (.invokespecial 15, 3) := dk_183 0 15 (dk_at dksX5_acts_0 3 rfl rfl)
theorem dX5_acts_6 : decode cX5_acts 6 = .ok (.aload_n 0, 1) := dk_42 (dk_at dksX5_acts_0 6 rfl rfl)
theorem dX5_acts_7 : decode cX5_acts 7 = .ok (.getfield 3, 3) := dk_180 0 3 (dk_at dksX5_acts_0 7 rfl rfl)
theorem dX5_acts_10 : decode cX5_acts 10 = .ok (.dup, 1) := dk_89 (dk_at dksX5_acts_0 10 rfl rfl)
theorem dX5_acts_11 : decode cX5_acts 11 = .ok (.getfield 19, 3) := dk_180 0 19 (dk_at dksX5_acts_0 11 rfl rfl)
theorem dX5_acts_14 : decode cX5_acts 14 = .ok (.iconst 1, 1) := dk_4 (dk_at dksX5_acts_0 14 rfl rfl)
theorem dX5_acts_15 : decode cX5_acts 15 = .ok (.iadd, 1) := dk_96 (dk_at dksX5_acts_0 15 rfl rfl)
theorem dX5_acts_16 : decode cX5_acts 16 = .ok (.putfield 19, 3) := dk_181 0 19 (dk_at dksX5_acts_0 16 rfl rfl)
theorem dX5_acts_19 : decode cX5_acts 19 = .ok (.aload_n 0, 1) := dk_42 (dk_at dksX5_acts_0 19 rfl rfl)
theorem dX5_acts_20 : decode cX5_acts 20 = .ok (.getfield 3, 3) := dk_180 0 3 (dk_at dksX5_acts_0 20 rfl rfl)
theorem dX5_acts_23 : decode cX5_acts 23 = .ok (.getfield 19, 3) := dk_180 0 19 (dk_at dksX5_acts_1 0 rfl rfl)
theorem dX5_acts_26 : decode cX5_acts 26 = .ok (.iconst 3, 1) := dk_6 (dk_at dksX5_acts_1 3 rfl rfl)
theorem dX5_acts_27 : decode cX5_acts 27 = .ok (.if_icmp .ne 17, 3) := dk_160 0 17 (dk_at dksX5_acts_1 4 rfl rfl)
theorem dX5_acts_30 : decode cX5_acts 30 = .ok (.aload_n 0, 1) := dk_42 (dk_at dksX5_acts_1 7 rfl rfl)
theorem dX5_acts_31 : decode cX5_acts 31 = .ok (.getfield 3, 3) := dk_180 0 3 (dk_at dksX5_acts_1 8 rfl rfl)
theorem dX5_acts_34 : decode cX5_acts 34 = .ok (.aload_n 0, 1) := dk_42 (dk_at dksX5_acts_1 11 rfl rfl)
theorem dX5_acts_35 : decode cX5_acts 35 = .ok (.getfield 3, 3) := dk_180 0 3 (dk_at dksX5_acts_1 12 rfl rfl)
theorem dX5_acts_38 : decode cX5_acts 38 = .ok (.getfield 23, 3) := dk_180 0 23 (dk_at dksX5_acts_1 15 rfl rfl)
theorem dX5_acts_41 : decode cX5_acts 41 = .ok (.putfield 26, 3) := dk_181 0 26 (dk_at dksX5_acts_1 18 rfl rfl)
theorem dX5_acts_44 : decode cX5_acts 44 = .ok (.new 29, 3) := dk_187 0 29 (dk_at dksX5_acts_1 21 rfl rfl)
theorem dX5_acts_47 : decode cX5_acts 47 = .ok (.dup, 1) := dk_89 (dk_at dksX5_acts_2 0 rfl rfl)
theorem dX5_acts_48 : decode cX5_acts 48 = .ok (.invokespecial 31, 3) := dk_183 0 31 (dk_at dksX5_acts_2 1 rfl rfl)
theorem dX5_acts_51 : decode cX5_acts 51 = .ok (.athrow, 1) := dk_191 (dk_at dksX5_acts_2 4 rfl rfl)
theorem q145 : (Jvm.Cond.initialized "WatchStack$BoardRung") ∈ lw_all := lw_g (lw_at lw_m1 9 rfl) rfl
theorem q301 : (Jvm.Cond.instantiable "WatchStack$BoardRung" (4 : Nat)) ∈ lw_all := lw_g (lw_at lw_m1 165 rfl) rfl
theorem q303 : (Jvm.Cond.instanceMethod ({ cls := "WatchStack$BoardRung", name := "<init>", desc := "(LWatchStack;)V" } : Jvm.MethodName)) ∈ lw_all := lw_g (lw_at lw_m1 167 rfl) rfl
theorem q304 : (Jvm.Cond.code ({ cls := "WatchStack$BoardRung", name := "<init>", desc := "(LWatchStack;)V" } : Jvm.MethodName) prog_2_method_1_code (2 : Nat) (Option.none : Option Jvm.ClassFile.FieldType)) ∈ lw_all := lw_g (lw_at lw_m1 168 rfl) rfl
theorem q305 : (Jvm.Cond.methodLinkNest "WatchStack$BoardRung" (9 : Nat) ({ cls := "WatchStack$WatcherRung", name := "<init>", desc := "(LWatchStack;)V" } : Jvm.MethodName) "WatchStack") ∈ lw_tbl := lw_at lw_m1 169 rfl
theorem q306 : (Jvm.Cond.fieldLink "WatchStack$BoardRung" (3 : Nat) "WatchStack$BoardRung" "this$0" "LWatchStack;") ∈ lw_all := lw_g (lw_at lw_m1 170 rfl) rfl
theorem q307 : (Jvm.Cond.laysFinal "WatchStack$BoardRung" "WatchStack$BoardRung" "this$0" "LWatchStack;") ∈ lw_all := lw_g (lw_at lw_m1 171 rfl) rfl
theorem q308 : (Jvm.Cond.soleField "WatchStack$BoardRung" "this$0") ∈ lw_all := lw_g (lw_at lw_m1 172 rfl) rfl
theorem q309 : (Jvm.Cond.laysFinal "WatchStack$BoardRung" "WatchStack$WatcherRung" "this$0" "LWatchStack;") ∈ lw_all := lw_g (lw_at lw_m1 173 rfl) rfl
theorem q310 : (Jvm.Cond.laysFinal "WatchStack$BoardRung" "WatchStack$GroupRung" "this$0" "LWatchStack;") ∈ lw_all := lw_g (lw_at lw_m1 174 rfl) rfl
theorem q311 : (Jvm.Cond.laysFinal "WatchStack$BoardRung" "WatchStack$Rung" "this$0" "LWatchStack;") ∈ lw_all := lw_g (lw_at lw_m1 175 rfl) rfl
theorem q312 : (Jvm.Cond.superclass "WatchStack$BoardRung" "WatchStack$WatcherRung") ∈ lw_all := lw_g (lw_at lw_m1 176 rfl) rfl
theorem q478 : (Jvm.Cond.fieldLinkNest "WatchStack$BoardRung" (23 : Nat) "WatchStack" "tick" "I" "WatchStack") ∈ lw_tbl := lw_at lw_m2 102 rfl
theorem q482 : (Jvm.Cond.fieldLinkNest "WatchStack$BoardRung" (19 : Nat) "WatchStack" "boards" "I" "WatchStack") ∈ lw_tbl := lw_at lw_m2 106 rfl
theorem q484 : (Jvm.Cond.fieldLinkNest "WatchStack$BoardRung" (26 : Nat) "WatchStack" "haltedAt" "I" "WatchStack") ∈ lw_tbl := lw_at lw_m2 108 rfl
theorem q892 : (Jvm.Cond.selects "WatchStack$BoardRung" ({ cls := "java/lang/Object", name := "getClass", desc := "()Ljava/lang/Class;" } : Jvm.MethodName) ({ cls := "java/lang/Object", name := "getClass", desc := "()Ljava/lang/Class;" } : Jvm.MethodName)) ∈ lw_all := lw_g (lw_at lw_m4 36 rfl) rfl
theorem q1212 : (Jvm.Cond.selects "WatchStack$BoardRung" ({ cls := "WatchStack$Rung", name := "acts", desc := "(II)V" } : Jvm.MethodName) ({ cls := "WatchStack$BoardRung", name := "acts", desc := "(II)V" } : Jvm.MethodName)) ∈ lw_all := lw_g (lw_at lw_m5 116 rfl) rfl
theorem q1213 : (Jvm.Cond.instanceMethod ({ cls := "WatchStack$BoardRung", name := "acts", desc := "(II)V" } : Jvm.MethodName)) ∈ lw_all := lw_g (lw_at lw_m5 117 rfl) rfl
theorem q1214 : (Jvm.Cond.code ({ cls := "WatchStack$BoardRung", name := "acts", desc := "(II)V" } : Jvm.MethodName) prog_2_method_2_code (3 : Nat) (Option.none : Option Jvm.ClassFile.FieldType)) ∈ lw_all := lw_g (lw_at lw_m5 118 rfl) rfl
theorem q1215 : (Jvm.Cond.methodLink "WatchStack$BoardRung" (15 : Nat) ({ cls := "WatchStack$WatcherRung", name := "acts", desc := "(II)V" } : Jvm.MethodName)) ∈ lw_all := lw_g (lw_at lw_m5 119 rfl) rfl
theorem q1233 : (Jvm.Cond.selects "WatchStack$BoardRung" ({ cls := "WatchStack$Rung", name := "restarts", desc := "(I)V" } : Jvm.MethodName) ({ cls := "WatchStack$Rung", name := "restarts", desc := "(I)V" } : Jvm.MethodName)) ∈ lw_all := lw_g (lw_at lw_m5 137 rfl) rfl
theorem q1239 : (Jvm.Cond.classLink "WatchStack$BoardRung" (29 : Nat) "WatchStack$Reset") ∈ lw_all := lw_g (lw_at lw_m5 143 rfl) rfl
theorem q1248 : (Jvm.Cond.methodLink "WatchStack$BoardRung" (31 : Nat) ({ cls := "WatchStack$Reset", name := "<init>", desc := "()V" } : Jvm.MethodName)) ∈ lw_all := lw_g (lw_at lw_m5 152 rfl) rfl
theorem q2374 : (Jvm.Cond.castable "WatchStack$BoardRung" "java/lang/Object") ∈ lw_tbl := lw_at lw_m10 78 rfl
theorem q2386 : (Jvm.Cond.castable "WatchStack$BoardRung" "WatchStack$Rung") ∈ lw_tbl := lw_at lw_m10 90 rfl
theorem in_X5 : ∀ w ∈ wsX50, w ∈ lw_all := lw_in wsX50 [311, 310, 309, 307] (by decide +kernel) (by decide +kernel)

/-! WatchStack$Note -/
set_option maxRecDepth 100000
def RX6 : String := "WatchStack$Note"
abbrev cX6_init : ByteArray := prog_8_method_1_code
def yX6_init : MethodName := ⟨RX6, "<init>", "()V"⟩
theorem dX6_init_0 : decode cX6_init 0 = .ok (.aload_n 0, 1) := by decide +kernel
theorem dX6_init_1 : decode cX6_init 1 = .ok (.invokespecial 1, 3) := by decide +kernel
theorem dX6_init_4 : decode cX6_init 4 = .ok (.return_, 1) := by decide +kernel
theorem q146 : (Jvm.Cond.initialized "WatchStack$Note") ∈ lw_all := lw_g (lw_at lw_m1 10 rfl) rfl
theorem q321 : (Jvm.Cond.instanceMethod ({ cls := "WatchStack$Note", name := "<init>", desc := "()V" } : Jvm.MethodName)) ∈ lw_all := lw_g (lw_at lw_m1 185 rfl) rfl
theorem q322 : (Jvm.Cond.code ({ cls := "WatchStack$Note", name := "<init>", desc := "()V" } : Jvm.MethodName) prog_8_method_1_code (1 : Nat) (Option.none : Option Jvm.ClassFile.FieldType)) ∈ lw_all := lw_g (lw_at lw_m1 186 rfl) rfl
theorem q323 : (Jvm.Cond.methodLink "WatchStack$Note" (1 : Nat) ({ cls := "java/lang/Object", name := "<init>", desc := "()V" } : Jvm.MethodName)) ∈ lw_all := lw_g (lw_at lw_m1 187 rfl) rfl

/-! WatchStack$TaskNote -/
set_option maxRecDepth 100000
def RX7 : String := "WatchStack$TaskNote"
abbrev cX7_init : ByteArray := prog_13_method_1_code
def yX7_init : MethodName := ⟨RX7, "<init>", "()V"⟩
theorem dX7_init_0 : decode cX7_init 0 = .ok (.aload_n 0, 1) := by decide +kernel
theorem dX7_init_1 : decode cX7_init 1 = .ok (.invokespecial 1, 3) := by decide +kernel
theorem dX7_init_4 : decode cX7_init 4 = .ok (.return_, 1) := by decide +kernel
theorem q147 : (Jvm.Cond.initialized "WatchStack$TaskNote") ∈ lw_all := lw_g (lw_at lw_m1 11 rfl) rfl
theorem q316 : (Jvm.Cond.instantiable "WatchStack$TaskNote" (0 : Nat)) ∈ lw_all := lw_g (lw_at lw_m1 180 rfl) rfl
theorem q318 : (Jvm.Cond.instanceMethod ({ cls := "WatchStack$TaskNote", name := "<init>", desc := "()V" } : Jvm.MethodName)) ∈ lw_all := lw_g (lw_at lw_m1 182 rfl) rfl
theorem q319 : (Jvm.Cond.code ({ cls := "WatchStack$TaskNote", name := "<init>", desc := "()V" } : Jvm.MethodName) prog_13_method_1_code (1 : Nat) (Option.none : Option Jvm.ClassFile.FieldType)) ∈ lw_all := lw_g (lw_at lw_m1 183 rfl) rfl
theorem q320 : (Jvm.Cond.methodLinkNest "WatchStack$TaskNote" (1 : Nat) ({ cls := "WatchStack$Note", name := "<init>", desc := "()V" } : Jvm.MethodName) "WatchStack") ∈ lw_tbl := lw_at lw_m1 184 rfl
theorem q324 : (Jvm.Cond.superclass "WatchStack$TaskNote" "WatchStack$Note") ∈ lw_all := lw_g (lw_at lw_m1 188 rfl) rfl
theorem q902 : (Jvm.Cond.selects "WatchStack$TaskNote" ({ cls := "java/lang/Object", name := "getClass", desc := "()Ljava/lang/Class;" } : Jvm.MethodName) ({ cls := "java/lang/Object", name := "getClass", desc := "()Ljava/lang/Class;" } : Jvm.MethodName)) ∈ lw_all := lw_g (lw_at lw_m4 46 rfl) rfl
theorem q2368 : (Jvm.Cond.castable "WatchStack$TaskNote" "java/lang/Object") ∈ lw_tbl := lw_at lw_m10 72 rfl

/-! WatchStack$WatcherNote -/
set_option maxRecDepth 100000
def RX8 : String := "WatchStack$WatcherNote"
abbrev cX8_init : ByteArray := prog_15_method_1_code
def yX8_init : MethodName := ⟨RX8, "<init>", "()V"⟩
theorem dX8_init_0 : decode cX8_init 0 = .ok (.aload_n 0, 1) := by decide +kernel
theorem dX8_init_1 : decode cX8_init 1 = .ok (.invokespecial 1, 3) := by decide +kernel
theorem dX8_init_4 : decode cX8_init 4 = .ok (.return_, 1) := by decide +kernel
theorem q148 : (Jvm.Cond.initialized "WatchStack$WatcherNote") ∈ lw_all := lw_g (lw_at lw_m1 12 rfl) rfl
theorem q327 : (Jvm.Cond.instantiable "WatchStack$WatcherNote" (0 : Nat)) ∈ lw_all := lw_g (lw_at lw_m1 191 rfl) rfl
theorem q329 : (Jvm.Cond.instanceMethod ({ cls := "WatchStack$WatcherNote", name := "<init>", desc := "()V" } : Jvm.MethodName)) ∈ lw_all := lw_g (lw_at lw_m1 193 rfl) rfl
theorem q330 : (Jvm.Cond.code ({ cls := "WatchStack$WatcherNote", name := "<init>", desc := "()V" } : Jvm.MethodName) prog_15_method_1_code (1 : Nat) (Option.none : Option Jvm.ClassFile.FieldType)) ∈ lw_all := lw_g (lw_at lw_m1 194 rfl) rfl
theorem q331 : (Jvm.Cond.methodLinkNest "WatchStack$WatcherNote" (1 : Nat) ({ cls := "WatchStack$Note", name := "<init>", desc := "()V" } : Jvm.MethodName) "WatchStack") ∈ lw_tbl := lw_at lw_m1 195 rfl
theorem q332 : (Jvm.Cond.superclass "WatchStack$WatcherNote" "WatchStack$Note") ∈ lw_all := lw_g (lw_at lw_m1 196 rfl) rfl
theorem q904 : (Jvm.Cond.selects "WatchStack$WatcherNote" ({ cls := "java/lang/Object", name := "getClass", desc := "()Ljava/lang/Class;" } : Jvm.MethodName) ({ cls := "java/lang/Object", name := "getClass", desc := "()Ljava/lang/Class;" } : Jvm.MethodName)) ∈ lw_all := lw_g (lw_at lw_m4 48 rfl) rfl
theorem q2369 : (Jvm.Cond.castable "WatchStack$WatcherNote" "java/lang/Object") ∈ lw_tbl := lw_at lw_m10 73 rfl

/-! WatchStack$Life -/
set_option maxRecDepth 100000
def RX9 : String := "WatchStack$Life"
def TX9 : u_T := fun k => match k with
  | 0 => ("WatchStack$Life", "isGoing", "Z", false)
  | 1 => ("WatchStack$Life", "isFirst", "Z", false)
  | 2 => ("WatchStack$Life", "job", "I", false)
  | 3 => ("WatchStack$Life", "node", "I", false)
  | 4 => ("WatchStack$Life", "done", "I", false)
  | 5 => ("WatchStack$Life", "start", "I", false)
  | 6 => ("WatchStack$Life", "last", "I", false)
  | 7 => ("WatchStack$Life", "kickedAt", "I", false)
  | 8 => ("WatchStack$Life", "question", "I", false)
  | 9 => ("WatchStack$Life", "jobs", "I", false)
  | 10 => ("WatchStack$Life", "count", "I", false)
  | 11 => ("WatchStack$Life", "well", "I", false)
  | 12 => ("WatchStack$Life", "kicks", "I", false)
  | 13 => ("WatchStack$Life", "kicked", "I", false)
  | 14 => ("WatchStack$Life", "inCycle", "I", false)
  | 15 => ("WatchStack$Life", "margins", "I", false)
  | 16 => ("WatchStack$Life", "isFaulty", "Z", false)
  | 17 => ("WatchStack$Life", "health", "F", false)
  | 18 => ("WatchStack$Life", "margin", "F", false)
  | _ => ("WatchStack$Life", "sum", "D", false)
def tyX9 : Nat → FieldType := fun k => match k with
  | 0 => .boolean
  | 1 => .boolean
  | 2 => .int
  | 3 => .int
  | 4 => .int
  | 5 => .int
  | 6 => .int
  | 7 => .int
  | 8 => .int
  | 9 => .int
  | 10 => .int
  | 11 => .int
  | 12 => .int
  | 13 => .int
  | 14 => .int
  | 15 => .int
  | 16 => .boolean
  | 17 => .float
  | 18 => .float
  | _ => .double
abbrev wsX90 : List Cond := u_ws RX9 TX9 20
set_option maxRecDepth 100000 in
theorem nmX9 : ∀ a, a < 20 → ∀ b, b < 20 → a ≠ b → (TX9 a).2.1 ≠ (TX9 b).2.1 := by decide +kernel
set_option maxRecDepth 100000 in
theorem tyX9_ok : ∀ k, k < 20 → parseFieldDescriptor (TX9 k).2.2.1 = some (tyX9 k) := by decide +kernel
abbrev cX9_init : ByteArray := prog_7_method_1_code
def yX9_init : MethodName := ⟨RX9, "<init>", "()V"⟩
theorem dX9_init_0 : decode cX9_init 0 = .ok (.aload_n 0, 1) := by decide +kernel
theorem dX9_init_1 : decode cX9_init 1 = .ok (.invokespecial 3, 3) := by decide +kernel
theorem dX9_init_4 : decode cX9_init 4 = .ok (.return_, 1) := by decide +kernel
abbrev cX9_isBorn : ByteArray := prog_7_method_3_code
def yX9_isBorn : MethodName := ⟨RX9, "isBorn", "()V"⟩
def dkwX9_isBorn_2 : List UInt8 := [3, 181, 0, 56, 42, 12, 181, 0, 59, 42, 11, 181, 0, 63, 42, 14, 181, 0, 66, 177]
abbrev dktX9_isBorn_2 : List UInt8 := dkwX9_isBorn_2 ++ []
def dkwX9_isBorn_1 : List UInt8 := [181, 0, 41, 42, 3, 181, 0, 44, 42, 2, 181, 0, 47, 42, 3, 181, 0, 50, 42, 3, 181, 0, 53, 42]
abbrev dktX9_isBorn_1 : List UInt8 := dkwX9_isBorn_1 ++ dktX9_isBorn_2
def dkwX9_isBorn_0 : List UInt8 := [42, 3, 182, 0, 28, 42, 2, 181, 0, 32, 42, 3, 181, 0, 35, 42, 3, 181, 0, 38, 42, 3]
abbrev dktX9_isBorn_0 : List UInt8 := dkwX9_isBorn_0 ++ dktX9_isBorn_1
theorem dksX9_isBorn_0 : cX9_isBorn.data.toList.drop 0 = dktX9_isBorn_0 := by decide +kernel
theorem dksX9_isBorn_1 : cX9_isBorn.data.toList.drop 22 = dktX9_isBorn_1 := dk_seg dksX9_isBorn_0 22 rfl rfl
theorem dksX9_isBorn_2 : cX9_isBorn.data.toList.drop 46 = dktX9_isBorn_2 := dk_seg dksX9_isBorn_1 24 rfl rfl
theorem dX9_isBorn_0 : decode cX9_isBorn 0 = .ok (.aload_n 0, 1) := dk_42 (dk_at dksX9_isBorn_0 0 rfl rfl)
theorem dX9_isBorn_1 : decode cX9_isBorn 1 = .ok (.iconst 0, 1) := dk_3 (dk_at dksX9_isBorn_0 1 rfl rfl)
theorem dX9_isBorn_2 : decode cX9_isBorn 2 = .ok (.invokevirtual 28, 3) := dk_182 0 28 (dk_at dksX9_isBorn_0 2 rfl rfl)
theorem dX9_isBorn_5 : decode cX9_isBorn 5 = .ok (.aload_n 0, 1) := dk_42 (dk_at dksX9_isBorn_0 5 rfl rfl)
theorem dX9_isBorn_6 : decode cX9_isBorn 6 = .ok (.iconst (-1), 1) := dk_2 (dk_at dksX9_isBorn_0 6 rfl rfl)
theorem dX9_isBorn_7 : decode cX9_isBorn 7 = .ok (.putfield 32, 3) := dk_181 0 32 (dk_at dksX9_isBorn_0 7 rfl rfl)
theorem dX9_isBorn_10 : decode cX9_isBorn 10 = .ok (.aload_n 0, 1) := dk_42 (dk_at dksX9_isBorn_0 10 rfl rfl)
theorem dX9_isBorn_11 : decode cX9_isBorn 11 = .ok (.iconst 0, 1) := dk_3 (dk_at dksX9_isBorn_0 11 rfl rfl)
theorem dX9_isBorn_12 : decode cX9_isBorn 12 = .ok (.putfield 35, 3) := dk_181 0 35 (dk_at dksX9_isBorn_0 12 rfl rfl)
theorem dX9_isBorn_15 : decode cX9_isBorn 15 = .ok (.aload_n 0, 1) := dk_42 (dk_at dksX9_isBorn_0 15 rfl rfl)
theorem dX9_isBorn_16 : decode cX9_isBorn 16 = .ok (.iconst 0, 1) := dk_3 (dk_at dksX9_isBorn_0 16 rfl rfl)
theorem dX9_isBorn_17 : decode cX9_isBorn 17 = .ok (.putfield 38, 3) := dk_181 0 38 (dk_at dksX9_isBorn_0 17 rfl rfl)
theorem dX9_isBorn_20 : decode cX9_isBorn 20 = .ok (.aload_n 0, 1) := dk_42 (dk_at dksX9_isBorn_0 20 rfl rfl)
theorem dX9_isBorn_21 : decode cX9_isBorn 21 = .ok (.iconst 0, 1) := dk_3 (dk_at dksX9_isBorn_0 21 rfl rfl)
theorem dX9_isBorn_22 : decode cX9_isBorn 22 = .ok (.putfield 41, 3) := dk_181 0 41 (dk_at dksX9_isBorn_1 0 rfl rfl)
theorem dX9_isBorn_25 : decode cX9_isBorn 25 = .ok (.aload_n 0, 1) := dk_42 (dk_at dksX9_isBorn_1 3 rfl rfl)
theorem dX9_isBorn_26 : decode cX9_isBorn 26 = .ok (.iconst 0, 1) := dk_3 (dk_at dksX9_isBorn_1 4 rfl rfl)
theorem dX9_isBorn_27 : decode cX9_isBorn 27 = .ok (.putfield 44, 3) := dk_181 0 44 (dk_at dksX9_isBorn_1 5 rfl rfl)
theorem dX9_isBorn_30 : decode cX9_isBorn 30 = .ok (.aload_n 0, 1) := dk_42 (dk_at dksX9_isBorn_1 8 rfl rfl)
theorem dX9_isBorn_31 : decode cX9_isBorn 31 = .ok (.iconst (-1), 1) := dk_2 (dk_at dksX9_isBorn_1 9 rfl rfl)
theorem dX9_isBorn_32 : decode cX9_isBorn 32 = .ok (.putfield 47, 3) := dk_181 0 47 (dk_at dksX9_isBorn_1 10 rfl rfl)
theorem dX9_isBorn_35 : decode cX9_isBorn 35 = .ok (.aload_n 0, 1) := dk_42 (dk_at dksX9_isBorn_1 13 rfl rfl)
theorem dX9_isBorn_36 : decode cX9_isBorn 36 = .ok (.iconst 0, 1) := dk_3 (dk_at dksX9_isBorn_1 14 rfl rfl)
theorem dX9_isBorn_37 : decode cX9_isBorn 37 = .ok (.putfield 50, 3) := dk_181 0 50 (dk_at dksX9_isBorn_1 15 rfl rfl)
theorem dX9_isBorn_40 : decode cX9_isBorn 40 = .ok (.aload_n 0, 1) := dk_42 (dk_at dksX9_isBorn_1 18 rfl rfl)
theorem dX9_isBorn_41 : decode cX9_isBorn 41 = .ok (.iconst 0, 1) := dk_3 (dk_at dksX9_isBorn_1 19 rfl rfl)
theorem dX9_isBorn_42 : decode cX9_isBorn 42 = .ok (.putfield 53, 3) := dk_181 0 53 (dk_at dksX9_isBorn_1 20 rfl rfl)
theorem dX9_isBorn_45 : decode cX9_isBorn 45 = .ok (.aload_n 0, 1) := dk_42 (dk_at dksX9_isBorn_1 23 rfl rfl)
theorem dX9_isBorn_46 : decode cX9_isBorn 46 = .ok (.iconst 0, 1) := dk_3 (dk_at dksX9_isBorn_2 0 rfl rfl)
theorem dX9_isBorn_47 : decode cX9_isBorn 47 = .ok (.putfield 56, 3) := dk_181 0 56 (dk_at dksX9_isBorn_2 1 rfl rfl)
theorem dX9_isBorn_50 : decode cX9_isBorn 50 = .ok (.aload_n 0, 1) := dk_42 (dk_at dksX9_isBorn_2 4 rfl rfl)
theorem dX9_isBorn_51 : decode cX9_isBorn 51 = .ok (.fconst 1, 1) := dk_12 (dk_at dksX9_isBorn_2 5 rfl rfl)
theorem dX9_isBorn_52 : decode cX9_isBorn 52 = .ok (.putfield 59, 3) := dk_181 0 59 (dk_at dksX9_isBorn_2 6 rfl rfl)
theorem dX9_isBorn_55 : decode cX9_isBorn 55 = .ok (.aload_n 0, 1) := dk_42 (dk_at dksX9_isBorn_2 9 rfl rfl)
theorem dX9_isBorn_56 : decode cX9_isBorn 56 = .ok (.fconst 0, 1) := dk_11 (dk_at dksX9_isBorn_2 10 rfl rfl)
theorem dX9_isBorn_57 : decode cX9_isBorn 57 = .ok (.putfield 63, 3) := dk_181 0 63 (dk_at dksX9_isBorn_2 11 rfl rfl)
theorem dX9_isBorn_60 : decode cX9_isBorn 60 = .ok (.aload_n 0, 1) := dk_42 (dk_at dksX9_isBorn_2 14 rfl rfl)
theorem dX9_isBorn_61 : decode cX9_isBorn 61 = .ok (.dconst 0, 1) := dk_14 (dk_at dksX9_isBorn_2 15 rfl rfl)
theorem dX9_isBorn_62 : decode cX9_isBorn 62 = .ok (.putfield 66, 3) := dk_181 0 66 (dk_at dksX9_isBorn_2 16 rfl rfl)
theorem dX9_isBorn_65 : decode cX9_isBorn 65 = .ok (.return_, 1) := dk_177 (dk_at dksX9_isBorn_2 19 rfl rfl)
abbrev cX9_begins : ByteArray := prog_7_method_2_code
def yX9_begins : MethodName := ⟨RX9, "begins", "(I)V"⟩
def dkwX9_begins_1 : List UInt8 := [181, 0, 25, 177]
abbrev dktX9_begins_1 : List UInt8 := dkwX9_begins_1 ++ []
def dkwX9_begins_0 : List UInt8 := [42, 3, 181, 0, 9, 42, 4, 181, 0, 15, 42, 27, 181, 0, 18, 42, 27, 4, 100, 181, 0, 22, 42, 4]
abbrev dktX9_begins_0 : List UInt8 := dkwX9_begins_0 ++ dktX9_begins_1
theorem dksX9_begins_0 : cX9_begins.data.toList.drop 0 = dktX9_begins_0 := by decide +kernel
theorem dksX9_begins_1 : cX9_begins.data.toList.drop 24 = dktX9_begins_1 := dk_seg dksX9_begins_0 24 rfl rfl
theorem dX9_begins_0 : decode cX9_begins 0 = .ok (.aload_n 0, 1) := dk_42 (dk_at dksX9_begins_0 0 rfl rfl)
theorem dX9_begins_1 : decode cX9_begins 1 = .ok (.iconst 0, 1) := dk_3 (dk_at dksX9_begins_0 1 rfl rfl)
theorem dX9_begins_2 : decode cX9_begins 2 = .ok (.putfield 9, 3) := dk_181 0 9 (dk_at dksX9_begins_0 2 rfl rfl)
theorem dX9_begins_5 : decode cX9_begins 5 = .ok (.aload_n 0, 1) := dk_42 (dk_at dksX9_begins_0 5 rfl rfl)
theorem dX9_begins_6 : decode cX9_begins 6 = .ok (.iconst 1, 1) := dk_4 (dk_at dksX9_begins_0 6 rfl rfl)
theorem dX9_begins_7 : decode cX9_begins 7 = .ok (.putfield 15, 3) := dk_181 0 15 (dk_at dksX9_begins_0 7 rfl rfl)
theorem dX9_begins_10 : decode cX9_begins 10 = .ok (.aload_n 0, 1) := dk_42 (dk_at dksX9_begins_0 10 rfl rfl)
theorem dX9_begins_11 : decode cX9_begins 11 = .ok (.iload_n 1, 1) := dk_27 (dk_at dksX9_begins_0 11 rfl rfl)
theorem dX9_begins_12 : decode cX9_begins 12 = .ok (.putfield 18, 3) := dk_181 0 18 (dk_at dksX9_begins_0 12 rfl rfl)
theorem dX9_begins_15 : decode cX9_begins 15 = .ok (.aload_n 0, 1) := dk_42 (dk_at dksX9_begins_0 15 rfl rfl)
theorem dX9_begins_16 : decode cX9_begins 16 = .ok (.iload_n 1, 1) := dk_27 (dk_at dksX9_begins_0 16 rfl rfl)
theorem dX9_begins_17 : decode cX9_begins 17 = .ok (.iconst 1, 1) := dk_4 (dk_at dksX9_begins_0 17 rfl rfl)
theorem dX9_begins_18 : decode cX9_begins 18 = .ok (.isub, 1) := dk_100 (dk_at dksX9_begins_0 18 rfl rfl)
theorem dX9_begins_19 : decode cX9_begins 19 = .ok (.putfield 22, 3) := dk_181 0 22 (dk_at dksX9_begins_0 19 rfl rfl)
theorem dX9_begins_22 : decode cX9_begins 22 = .ok (.aload_n 0, 1) := dk_42 (dk_at dksX9_begins_0 22 rfl rfl)
theorem dX9_begins_23 : decode cX9_begins 23 = .ok (.iconst 1, 1) := dk_4 (dk_at dksX9_begins_0 23 rfl rfl)
theorem dX9_begins_24 : decode cX9_begins 24 = .ok (.putfield 25, 3) := dk_181 0 25 (dk_at dksX9_begins_1 0 rfl rfl)
theorem dX9_begins_27 : decode cX9_begins 27 = .ok (.return_, 1) := dk_177 (dk_at dksX9_begins_1 3 rfl rfl)
abbrev cX9_starts : ByteArray := prog_7_method_4_code
def yX9_starts : MethodName := ⟨RX9, "starts", "()V"⟩
def dkwX9_starts_1 : List UInt8 := [3, 181, 0, 73, 42, 3, 181, 0, 76, 177]
abbrev dktX9_starts_1 : List UInt8 := dkwX9_starts_1 ++ []
def dkwX9_starts_0 : List UInt8 := [42, 4, 181, 0, 9, 42, 42, 180, 0, 35, 181, 0, 70, 42, 89, 180, 0, 35, 4, 96, 181, 0, 35, 42]
abbrev dktX9_starts_0 : List UInt8 := dkwX9_starts_0 ++ dktX9_starts_1
theorem dksX9_starts_0 : cX9_starts.data.toList.drop 0 = dktX9_starts_0 := by decide +kernel
theorem dksX9_starts_1 : cX9_starts.data.toList.drop 24 = dktX9_starts_1 := dk_seg dksX9_starts_0 24 rfl rfl
theorem dX9_starts_0 : decode cX9_starts 0 = .ok (.aload_n 0, 1) := dk_42 (dk_at dksX9_starts_0 0 rfl rfl)
theorem dX9_starts_1 : decode cX9_starts 1 = .ok (.iconst 1, 1) := dk_4 (dk_at dksX9_starts_0 1 rfl rfl)
theorem dX9_starts_2 : decode cX9_starts 2 = .ok (.putfield 9, 3) := dk_181 0 9 (dk_at dksX9_starts_0 2 rfl rfl)
theorem dX9_starts_5 : decode cX9_starts 5 = .ok (.aload_n 0, 1) := dk_42 (dk_at dksX9_starts_0 5 rfl rfl)
theorem dX9_starts_6 : decode cX9_starts 6 = .ok (.aload_n 0, 1) := dk_42 (dk_at dksX9_starts_0 6 rfl rfl)
theorem dX9_starts_7 : decode cX9_starts 7 = .ok (.getfield 35, 3) := dk_180 0 35 (dk_at dksX9_starts_0 7 rfl rfl)
theorem dX9_starts_10 : decode cX9_starts 10 = .ok (.putfield 70, 3) := dk_181 0 70 (dk_at dksX9_starts_0 10 rfl rfl)
theorem dX9_starts_13 : decode cX9_starts 13 = .ok (.aload_n 0, 1) := dk_42 (dk_at dksX9_starts_0 13 rfl rfl)
theorem dX9_starts_14 : decode cX9_starts 14 = .ok (.dup, 1) := dk_89 (dk_at dksX9_starts_0 14 rfl rfl)
theorem dX9_starts_15 : decode cX9_starts 15 = .ok (.getfield 35, 3) := dk_180 0 35 (dk_at dksX9_starts_0 15 rfl rfl)
theorem dX9_starts_18 : decode cX9_starts 18 = .ok (.iconst 1, 1) := dk_4 (dk_at dksX9_starts_0 18 rfl rfl)
theorem dX9_starts_19 : decode cX9_starts 19 = .ok (.iadd, 1) := dk_96 (dk_at dksX9_starts_0 19 rfl rfl)
theorem dX9_starts_20 : decode cX9_starts 20 = .ok (.putfield 35, 3) := dk_181 0 35 (dk_at dksX9_starts_0 20 rfl rfl)
theorem dX9_starts_23 : decode cX9_starts 23 = .ok (.aload_n 0, 1) := dk_42 (dk_at dksX9_starts_0 23 rfl rfl)
theorem dX9_starts_24 : decode cX9_starts 24 = .ok (.iconst 0, 1) := dk_3 (dk_at dksX9_starts_1 0 rfl rfl)
theorem dX9_starts_25 : decode cX9_starts 25 = .ok (.putfield 73, 3) := dk_181 0 73 (dk_at dksX9_starts_1 1 rfl rfl)
theorem dX9_starts_28 : decode cX9_starts 28 = .ok (.aload_n 0, 1) := dk_42 (dk_at dksX9_starts_1 4 rfl rfl)
theorem dX9_starts_29 : decode cX9_starts 29 = .ok (.iconst 0, 1) := dk_3 (dk_at dksX9_starts_1 5 rfl rfl)
theorem dX9_starts_30 : decode cX9_starts 30 = .ok (.putfield 76, 3) := dk_181 0 76 (dk_at dksX9_starts_1 6 rfl rfl)
theorem dX9_starts_33 : decode cX9_starts 33 = .ok (.return_, 1) := dk_177 (dk_at dksX9_starts_1 9 rfl rfl)
abbrev cX9_good : ByteArray := prog_7_method_5_code
def yX9_good : MethodName := ⟨RX9, "good", "(III)V"⟩
def dkwX9_good_4 : List UInt8 := [181, 0, 25, 177]
abbrev dktX9_good_4 : List UInt8 := dkwX9_good_4 ++ []
def dkwX9_good_3 : List UInt8 := [42, 3, 181, 0, 15, 42, 27, 181, 0, 22, 42, 16, 13, 42, 180, 0, 25, 104, 16, 7, 96, 16, 64, 112]
abbrev dktX9_good_3 : List UInt8 := dkwX9_good_3 ++ dktX9_good_4
def dkwX9_good_2 : List UInt8 := [181, 0, 59, 42, 180, 0, 15, 154, 0, 17, 42, 29, 21, 4, 100, 134, 29, 28, 100, 134, 110, 182, 0, 80]
abbrev dktX9_good_2 : List UInt8 := dkwX9_good_2 ++ dktX9_good_3
def dkwX9_good_1 : List UInt8 := [89, 180, 0, 50, 4, 96, 181, 0, 50, 42, 42, 180, 0, 59, 12, 42, 180, 0, 59, 102, 18, 79, 106, 98]
abbrev dktX9_good_1 : List UInt8 := dkwX9_good_1 ++ dktX9_good_2
def dkwX9_good_0 : List UInt8 := [27, 42, 180, 0, 22, 100, 54, 4, 42, 89, 180, 0, 44, 4, 96, 181, 0, 44, 42, 27, 181, 0, 47, 42]
abbrev dktX9_good_0 : List UInt8 := dkwX9_good_0 ++ dktX9_good_1
theorem dksX9_good_0 : cX9_good.data.toList.drop 0 = dktX9_good_0 := by decide +kernel
theorem dksX9_good_1 : cX9_good.data.toList.drop 24 = dktX9_good_1 := dk_seg dksX9_good_0 24 rfl rfl
theorem dksX9_good_2 : cX9_good.data.toList.drop 48 = dktX9_good_2 := dk_seg dksX9_good_1 24 rfl rfl
theorem dksX9_good_3 : cX9_good.data.toList.drop 72 = dktX9_good_3 := dk_seg dksX9_good_2 24 rfl rfl
theorem dksX9_good_4 : cX9_good.data.toList.drop 96 = dktX9_good_4 := dk_seg dksX9_good_3 24 rfl rfl
theorem dX9_good_0 : decode cX9_good 0 = .ok (.iload_n 1, 1) := dk_27 (dk_at dksX9_good_0 0 rfl rfl)
theorem dX9_good_1 : decode cX9_good 1 = .ok (.aload_n 0, 1) := dk_42 (dk_at dksX9_good_0 1 rfl rfl)
theorem dX9_good_2 : decode cX9_good 2 = .ok (.getfield 22, 3) := dk_180 0 22 (dk_at dksX9_good_0 2 rfl rfl)
theorem dX9_good_5 : decode cX9_good 5 = .ok (.isub, 1) := dk_100 (dk_at dksX9_good_0 5 rfl rfl)
theorem dX9_good_6 : decode cX9_good 6 = .ok (.istore 4, 2) := dk_54 4 (dk_at dksX9_good_0 6 rfl rfl)
theorem dX9_good_8 : decode cX9_good 8 = .ok (.aload_n 0, 1) := dk_42 (dk_at dksX9_good_0 8 rfl rfl)
theorem dX9_good_9 : decode cX9_good 9 = .ok (.dup, 1) := dk_89 (dk_at dksX9_good_0 9 rfl rfl)
theorem dX9_good_10 : decode cX9_good 10 = .ok (.getfield 44, 3) := dk_180 0 44 (dk_at dksX9_good_0 10 rfl rfl)
theorem dX9_good_13 : decode cX9_good 13 = .ok (.iconst 1, 1) := dk_4 (dk_at dksX9_good_0 13 rfl rfl)
theorem dX9_good_14 : decode cX9_good 14 = .ok (.iadd, 1) := dk_96 (dk_at dksX9_good_0 14 rfl rfl)
theorem dX9_good_15 : decode cX9_good 15 = .ok (.putfield 44, 3) := dk_181 0 44 (dk_at dksX9_good_0 15 rfl rfl)
theorem dX9_good_18 : decode cX9_good 18 = .ok (.aload_n 0, 1) := dk_42 (dk_at dksX9_good_0 18 rfl rfl)
theorem dX9_good_19 : decode cX9_good 19 = .ok (.iload_n 1, 1) := dk_27 (dk_at dksX9_good_0 19 rfl rfl)
theorem dX9_good_20 : decode cX9_good 20 = .ok (.putfield 47, 3) := dk_181 0 47 (dk_at dksX9_good_0 20 rfl rfl)
theorem dX9_good_23 : decode cX9_good 23 = .ok (.aload_n 0, 1) := dk_42 (dk_at dksX9_good_0 23 rfl rfl)
theorem dX9_good_24 : decode cX9_good 24 = .ok (.dup, 1) := dk_89 (dk_at dksX9_good_1 0 rfl rfl)
theorem dX9_good_25 : decode cX9_good 25 = .ok (.getfield 50, 3) := dk_180 0 50 (dk_at dksX9_good_1 1 rfl rfl)
theorem dX9_good_28 : decode cX9_good 28 = .ok (.iconst 1, 1) := dk_4 (dk_at dksX9_good_1 4 rfl rfl)
theorem dX9_good_29 : decode cX9_good 29 = .ok (.iadd, 1) := dk_96 (dk_at dksX9_good_1 5 rfl rfl)
theorem dX9_good_30 : decode cX9_good 30 = .ok (.putfield 50, 3) := dk_181 0 50 (dk_at dksX9_good_1 6 rfl rfl)
theorem dX9_good_33 : decode cX9_good 33 = .ok (.aload_n 0, 1) := dk_42 (dk_at dksX9_good_1 9 rfl rfl)
theorem dX9_good_34 : decode cX9_good 34 = .ok (.aload_n 0, 1) := dk_42 (dk_at dksX9_good_1 10 rfl rfl)
theorem dX9_good_35 : decode cX9_good 35 = .ok (.getfield 59, 3) := dk_180 0 59 (dk_at dksX9_good_1 11 rfl rfl)
theorem dX9_good_38 : decode cX9_good 38 = .ok (.fconst 1, 1) := dk_12 (dk_at dksX9_good_1 14 rfl rfl)
theorem dX9_good_39 : decode cX9_good 39 = .ok (.aload_n 0, 1) := dk_42 (dk_at dksX9_good_1 15 rfl rfl)
theorem dX9_good_40 : decode cX9_good 40 = .ok (.getfield 59, 3) := dk_180 0 59 (dk_at dksX9_good_1 16 rfl rfl)
theorem dX9_good_43 : decode cX9_good 43 = .ok (.fsub, 1) := dk_102 (dk_at dksX9_good_1 19 rfl rfl)
theorem dX9_good_44 : decode cX9_good 44 = .ok (.ldc 79, 2) := dk_18 79 (dk_at dksX9_good_1 20 rfl rfl)
theorem dX9_good_46 : decode cX9_good 46 = .ok (.fmul, 1) := dk_106 (dk_at dksX9_good_1 22 rfl rfl)
theorem dX9_good_47 : decode cX9_good 47 = .ok (.fadd, 1) := dk_98 (dk_at dksX9_good_1 23 rfl rfl)
theorem dX9_good_48 : decode cX9_good 48 = .ok (.putfield 59, 3) := dk_181 0 59 (dk_at dksX9_good_2 0 rfl rfl)
theorem dX9_good_51 : decode cX9_good 51 = .ok (.aload_n 0, 1) := dk_42 (dk_at dksX9_good_2 3 rfl rfl)
theorem dX9_good_52 : decode cX9_good 52 = .ok (.getfield 15, 3) := dk_180 0 15 (dk_at dksX9_good_2 4 rfl rfl)
theorem dX9_good_55 : decode cX9_good 55 = .ok (.ifCond .ne 17, 3) := dk_154 0 17 (dk_at dksX9_good_2 7 rfl rfl)
theorem dX9_good_58 : decode cX9_good 58 = .ok (.aload_n 0, 1) := dk_42 (dk_at dksX9_good_2 10 rfl rfl)
theorem dX9_good_59 : decode cX9_good 59 = .ok (.iload_n 3, 1) := dk_29 (dk_at dksX9_good_2 11 rfl rfl)
theorem dX9_good_60 : decode cX9_good 60 = .ok (.iload 4, 2) := dk_21 4 (dk_at dksX9_good_2 12 rfl rfl)
theorem dX9_good_62 : decode cX9_good 62 = .ok (.isub, 1) := dk_100 (dk_at dksX9_good_2 14 rfl rfl)
theorem dX9_good_63 : decode cX9_good 63 = .ok (.i2f, 1) := dk_134 (dk_at dksX9_good_2 15 rfl rfl)
theorem dX9_good_64 : decode cX9_good 64 = .ok (.iload_n 3, 1) := dk_29 (dk_at dksX9_good_2 16 rfl rfl)
theorem dX9_good_65 : decode cX9_good 65 = .ok (.iload_n 2, 1) := dk_28 (dk_at dksX9_good_2 17 rfl rfl)
theorem dX9_good_66 : decode cX9_good 66 = .ok (.isub, 1) := dk_100 (dk_at dksX9_good_2 18 rfl rfl)
theorem dX9_good_67 : decode cX9_good 67 = .ok (.i2f, 1) := dk_134 (dk_at dksX9_good_2 19 rfl rfl)
theorem dX9_good_68 : decode cX9_good 68 = .ok (.fdiv, 1) := dk_110 (dk_at dksX9_good_2 20 rfl rfl)
theorem dX9_good_69 : decode cX9_good 69 = .ok (.invokevirtual 80, 3) := dk_182 0 80 (dk_at dksX9_good_2 21 rfl rfl)
theorem dX9_good_72 : decode cX9_good 72 = .ok (.aload_n 0, 1) := dk_42 (dk_at dksX9_good_3 0 rfl rfl)
theorem dX9_good_73 : decode cX9_good 73 = .ok (.iconst 0, 1) := dk_3 (dk_at dksX9_good_3 1 rfl rfl)
theorem dX9_good_74 : decode cX9_good 74 = .ok (.putfield 15, 3) := dk_181 0 15 (dk_at dksX9_good_3 2 rfl rfl)
theorem dX9_good_77 : decode cX9_good 77 = .ok (.aload_n 0, 1) := dk_42 (dk_at dksX9_good_3 5 rfl rfl)
theorem dX9_good_78 : decode cX9_good 78 = .ok (.iload_n 1, 1) := dk_27 (dk_at dksX9_good_3 6 rfl rfl)
theorem dX9_good_79 : decode cX9_good 79 = .ok (.putfield 22, 3) := dk_181 0 22 (dk_at dksX9_good_3 7 rfl rfl)
theorem dX9_good_82 : decode cX9_good 82 = .ok (.aload_n 0, 1) := dk_42 (dk_at dksX9_good_3 10 rfl rfl)
theorem dX9_good_83 : decode cX9_good 83 = .ok (.bipush 13, 2) := dk_16 13 (dk_at dksX9_good_3 11 rfl rfl)
theorem dX9_good_85 : decode cX9_good 85 = .ok (.aload_n 0, 1) := dk_42 (dk_at dksX9_good_3 13 rfl rfl)
theorem dX9_good_86 : decode cX9_good 86 = .ok (.getfield 25, 3) := dk_180 0 25 (dk_at dksX9_good_3 14 rfl rfl)
theorem dX9_good_89 : decode cX9_good 89 = .ok (.imul, 1) := dk_104 (dk_at dksX9_good_3 17 rfl rfl)
theorem dX9_good_90 : decode cX9_good 90 = .ok (.bipush 7, 2) := dk_16 7 (dk_at dksX9_good_3 18 rfl rfl)
theorem dX9_good_92 : decode cX9_good 92 = .ok (.iadd, 1) := dk_96 (dk_at dksX9_good_3 20 rfl rfl)
theorem dX9_good_93 : decode cX9_good 93 = .ok (.bipush 64, 2) := dk_16 64 (dk_at dksX9_good_3 21 rfl rfl)
theorem dX9_good_95 : decode cX9_good 95 = .ok (.irem, 1) := dk_112 (dk_at dksX9_good_3 23 rfl rfl)
theorem dX9_good_96 : decode cX9_good 96 = .ok (.putfield 25, 3) := dk_181 0 25 (dk_at dksX9_good_4 0 rfl rfl)
theorem dX9_good_99 : decode cX9_good 99 = .ok (.return_, 1) := dk_177 (dk_at dksX9_good_4 3 rfl rfl)
abbrev cX9_marks : ByteArray := prog_7_method_6_code
def yX9_marks : MethodName := ⟨RX9, "marks", "(F)V"⟩
def dkwX9_marks_2 : List UInt8 := [181, 0, 53, 177]
abbrev dktX9_marks_2 : List UInt8 := dkwX9_marks_2 ++ []
def dkwX9_marks_1 : List UInt8 := [180, 0, 63, 181, 0, 63, 42, 89, 180, 0, 66, 35, 141, 99, 181, 0, 66, 42, 89, 180, 0, 53, 4, 96]
abbrev dktX9_marks_1 : List UInt8 := dkwX9_marks_1 ++ dktX9_marks_2
def dkwX9_marks_0 : List UInt8 := [42, 42, 180, 0, 53, 153, 0, 12, 35, 42, 180, 0, 63, 150, 156, 0, 7, 35, 167, 0, 7, 42]
abbrev dktX9_marks_0 : List UInt8 := dkwX9_marks_0 ++ dktX9_marks_1
theorem dksX9_marks_0 : cX9_marks.data.toList.drop 0 = dktX9_marks_0 := by decide +kernel
theorem dksX9_marks_1 : cX9_marks.data.toList.drop 22 = dktX9_marks_1 := dk_seg dksX9_marks_0 22 rfl rfl
theorem dksX9_marks_2 : cX9_marks.data.toList.drop 46 = dktX9_marks_2 := dk_seg dksX9_marks_1 24 rfl rfl
theorem dX9_marks_0 : decode cX9_marks 0 = .ok (.aload_n 0, 1) := dk_42 (dk_at dksX9_marks_0 0 rfl rfl)
theorem dX9_marks_1 : decode cX9_marks 1 = .ok (.aload_n 0, 1) := dk_42 (dk_at dksX9_marks_0 1 rfl rfl)
theorem dX9_marks_2 : decode cX9_marks 2 = .ok (.getfield 53, 3) := dk_180 0 53 (dk_at dksX9_marks_0 2 rfl rfl)
theorem dX9_marks_5 : decode cX9_marks 5 = .ok (.ifCond .eq 12, 3) := dk_153 0 12 (dk_at dksX9_marks_0 5 rfl rfl)
theorem dX9_marks_8 : decode cX9_marks 8 = .ok (.fload_n 1, 1) := dk_35 (dk_at dksX9_marks_0 8 rfl rfl)
theorem dX9_marks_9 : decode cX9_marks 9 = .ok (.aload_n 0, 1) := dk_42 (dk_at dksX9_marks_0 9 rfl rfl)
theorem dX9_marks_10 : decode cX9_marks 10 = .ok (.getfield 63, 3) := dk_180 0 63 (dk_at dksX9_marks_0 10 rfl rfl)
theorem dX9_marks_13 : decode cX9_marks 13 = .ok (.fcmp .g, 1) := dk_150 (dk_at dksX9_marks_0 13 rfl rfl)
theorem dX9_marks_14 : decode cX9_marks 14 = .ok (.ifCond .ge 7, 3) := dk_156 0 7 (dk_at dksX9_marks_0 14 rfl rfl)
theorem dX9_marks_17 : decode cX9_marks 17 = .ok (.fload_n 1, 1) := dk_35 (dk_at dksX9_marks_0 17 rfl rfl)
theorem dX9_marks_18 : decode cX9_marks 18 = .ok (.goto 7, 3) := dk_167 0 7 (dk_at dksX9_marks_0 18 rfl rfl)
theorem dX9_marks_21 : decode cX9_marks 21 = .ok (.aload_n 0, 1) := dk_42 (dk_at dksX9_marks_0 21 rfl rfl)
theorem dX9_marks_22 : decode cX9_marks 22 = .ok (.getfield 63, 3) := dk_180 0 63 (dk_at dksX9_marks_1 0 rfl rfl)
theorem dX9_marks_25 : decode cX9_marks 25 = .ok (.putfield 63, 3) := dk_181 0 63 (dk_at dksX9_marks_1 3 rfl rfl)
theorem dX9_marks_28 : decode cX9_marks 28 = .ok (.aload_n 0, 1) := dk_42 (dk_at dksX9_marks_1 6 rfl rfl)
theorem dX9_marks_29 : decode cX9_marks 29 = .ok (.dup, 1) := dk_89 (dk_at dksX9_marks_1 7 rfl rfl)
theorem dX9_marks_30 : decode cX9_marks 30 = .ok (.getfield 66, 3) := dk_180 0 66 (dk_at dksX9_marks_1 8 rfl rfl)
theorem dX9_marks_33 : decode cX9_marks 33 = .ok (.fload_n 1, 1) := dk_35 (dk_at dksX9_marks_1 11 rfl rfl)
theorem dX9_marks_34 : decode cX9_marks 34 = .ok (.f2d, 1) := dk_141 (dk_at dksX9_marks_1 12 rfl rfl)
theorem dX9_marks_35 : decode cX9_marks 35 = .ok (.dadd, 1) := dk_99 (dk_at dksX9_marks_1 13 rfl rfl)
theorem dX9_marks_36 : decode cX9_marks 36 = .ok (.putfield 66, 3) := dk_181 0 66 (dk_at dksX9_marks_1 14 rfl rfl)
theorem dX9_marks_39 : decode cX9_marks 39 = .ok (.aload_n 0, 1) := dk_42 (dk_at dksX9_marks_1 17 rfl rfl)
theorem dX9_marks_40 : decode cX9_marks 40 = .ok (.dup, 1) := dk_89 (dk_at dksX9_marks_1 18 rfl rfl)
theorem dX9_marks_41 : decode cX9_marks 41 = .ok (.getfield 53, 3) := dk_180 0 53 (dk_at dksX9_marks_1 19 rfl rfl)
theorem dX9_marks_44 : decode cX9_marks 44 = .ok (.iconst 1, 1) := dk_4 (dk_at dksX9_marks_1 22 rfl rfl)
theorem dX9_marks_45 : decode cX9_marks 45 = .ok (.iadd, 1) := dk_96 (dk_at dksX9_marks_1 23 rfl rfl)
theorem dX9_marks_46 : decode cX9_marks 46 = .ok (.putfield 53, 3) := dk_181 0 53 (dk_at dksX9_marks_2 0 rfl rfl)
theorem dX9_marks_49 : decode cX9_marks 49 = .ok (.return_, 1) := dk_177 (dk_at dksX9_marks_2 3 rfl rfl)
abbrev cX9_rests : ByteArray := prog_7_method_7_code
def yX9_rests : MethodName := ⟨RX9, "rests", "()V"⟩
def dkwX9_rests_2 : List UInt8 := [3, 181, 0, 56, 42, 3, 181, 0, 50, 177]
abbrev dktX9_rests_2 : List UInt8 := dkwX9_rests_2 ++ []
def dkwX9_rests_1 : List UInt8 := [42, 180, 0, 41, 6, 160, 0, 18, 42, 89, 180, 0, 38, 4, 100, 181, 0, 38, 42, 3, 181, 0, 41, 42]
abbrev dktX9_rests_1 : List UInt8 := dkwX9_rests_1 ++ dktX9_rests_2
def dkwX9_rests_0 : List UInt8 := [42, 180, 0, 56, 154, 0, 43, 42, 180, 0, 38, 158, 0, 36, 42, 89, 180, 0, 41, 4, 96, 181, 0, 41]
abbrev dktX9_rests_0 : List UInt8 := dkwX9_rests_0 ++ dktX9_rests_1
theorem dksX9_rests_0 : cX9_rests.data.toList.drop 0 = dktX9_rests_0 := by decide +kernel
theorem dksX9_rests_1 : cX9_rests.data.toList.drop 24 = dktX9_rests_1 := dk_seg dksX9_rests_0 24 rfl rfl
theorem dksX9_rests_2 : cX9_rests.data.toList.drop 48 = dktX9_rests_2 := dk_seg dksX9_rests_1 24 rfl rfl
theorem dX9_rests_0 : decode cX9_rests 0 = .ok (.aload_n 0, 1) := dk_42 (dk_at dksX9_rests_0 0 rfl rfl)
theorem dX9_rests_1 : decode cX9_rests 1 = .ok (.getfield 56, 3) := dk_180 0 56 (dk_at dksX9_rests_0 1 rfl rfl)
theorem dX9_rests_4 : decode cX9_rests 4 = .ok (.ifCond .ne 43, 3) := dk_154 0 43 (dk_at dksX9_rests_0 4 rfl rfl)
theorem dX9_rests_7 : decode cX9_rests 7 = .ok (.aload_n 0, 1) := dk_42 (dk_at dksX9_rests_0 7 rfl rfl)
theorem dX9_rests_8 : decode cX9_rests 8 = .ok (.getfield 38, 3) := dk_180 0 38 (dk_at dksX9_rests_0 8 rfl rfl)
theorem dX9_rests_11 : decode cX9_rests 11 = .ok (.ifCond .le 36, 3) := dk_158 0 36 (dk_at dksX9_rests_0 11 rfl rfl)
theorem dX9_rests_14 : decode cX9_rests 14 = .ok (.aload_n 0, 1) := dk_42 (dk_at dksX9_rests_0 14 rfl rfl)
theorem dX9_rests_15 : decode cX9_rests 15 = .ok (.dup, 1) := dk_89 (dk_at dksX9_rests_0 15 rfl rfl)
theorem dX9_rests_16 : decode cX9_rests 16 = .ok (.getfield 41, 3) := dk_180 0 41 (dk_at dksX9_rests_0 16 rfl rfl)
theorem dX9_rests_19 : decode cX9_rests 19 = .ok (.iconst 1, 1) := dk_4 (dk_at dksX9_rests_0 19 rfl rfl)
theorem dX9_rests_20 : decode cX9_rests 20 = .ok (.iadd, 1) := dk_96 (dk_at dksX9_rests_0 20 rfl rfl)
theorem dX9_rests_21 : decode cX9_rests 21 = .ok (.putfield 41, 3) := dk_181 0 41 (dk_at dksX9_rests_0 21 rfl rfl)
theorem dX9_rests_24 : decode cX9_rests 24 = .ok (.aload_n 0, 1) := dk_42 (dk_at dksX9_rests_1 0 rfl rfl)
theorem dX9_rests_25 : decode cX9_rests 25 = .ok (.getfield 41, 3) := dk_180 0 41 (dk_at dksX9_rests_1 1 rfl rfl)
theorem dX9_rests_28 : decode cX9_rests 28 = .ok (.iconst 3, 1) := dk_6 (dk_at dksX9_rests_1 4 rfl rfl)
theorem dX9_rests_29 : decode cX9_rests 29 = .ok (.if_icmp .ne 18, 3) := dk_160 0 18 (dk_at dksX9_rests_1 5 rfl rfl)
theorem dX9_rests_32 : decode cX9_rests 32 = .ok (.aload_n 0, 1) := dk_42 (dk_at dksX9_rests_1 8 rfl rfl)
theorem dX9_rests_33 : decode cX9_rests 33 = .ok (.dup, 1) := dk_89 (dk_at dksX9_rests_1 9 rfl rfl)
theorem dX9_rests_34 : decode cX9_rests 34 = .ok (.getfield 38, 3) := dk_180 0 38 (dk_at dksX9_rests_1 10 rfl rfl)
theorem dX9_rests_37 : decode cX9_rests 37 = .ok (.iconst 1, 1) := dk_4 (dk_at dksX9_rests_1 13 rfl rfl)
theorem dX9_rests_38 : decode cX9_rests 38 = .ok (.isub, 1) := dk_100 (dk_at dksX9_rests_1 14 rfl rfl)
theorem dX9_rests_39 : decode cX9_rests 39 = .ok (.putfield 38, 3) := dk_181 0 38 (dk_at dksX9_rests_1 15 rfl rfl)
theorem dX9_rests_42 : decode cX9_rests 42 = .ok (.aload_n 0, 1) := dk_42 (dk_at dksX9_rests_1 18 rfl rfl)
theorem dX9_rests_43 : decode cX9_rests 43 = .ok (.iconst 0, 1) := dk_3 (dk_at dksX9_rests_1 19 rfl rfl)
theorem dX9_rests_44 : decode cX9_rests 44 = .ok (.putfield 41, 3) := dk_181 0 41 (dk_at dksX9_rests_1 20 rfl rfl)
theorem dX9_rests_47 : decode cX9_rests 47 = .ok (.aload_n 0, 1) := dk_42 (dk_at dksX9_rests_1 23 rfl rfl)
theorem dX9_rests_48 : decode cX9_rests 48 = .ok (.iconst 0, 1) := dk_3 (dk_at dksX9_rests_2 0 rfl rfl)
theorem dX9_rests_49 : decode cX9_rests 49 = .ok (.putfield 56, 3) := dk_181 0 56 (dk_at dksX9_rests_2 1 rfl rfl)
theorem dX9_rests_52 : decode cX9_rests 52 = .ok (.aload_n 0, 1) := dk_42 (dk_at dksX9_rests_2 4 rfl rfl)
theorem dX9_rests_53 : decode cX9_rests 53 = .ok (.iconst 0, 1) := dk_3 (dk_at dksX9_rests_2 5 rfl rfl)
theorem dX9_rests_54 : decode cX9_rests 54 = .ok (.putfield 50, 3) := dk_181 0 50 (dk_at dksX9_rests_2 6 rfl rfl)
theorem dX9_rests_57 : decode cX9_rests 57 = .ok (.return_, 1) := dk_177 (dk_at dksX9_rests_2 9 rfl rfl)
theorem q149 : (Jvm.Cond.initialized "WatchStack$Life") ∈ lw_all := lw_g (lw_at lw_m1 13 rfl) rfl
theorem q333 : (Jvm.Cond.instantiable "WatchStack$Life" (20 : Nat)) ∈ lw_all := lw_g (lw_at lw_m1 197 rfl) rfl
theorem q335 : (Jvm.Cond.instanceMethod ({ cls := "WatchStack$Life", name := "<init>", desc := "()V" } : Jvm.MethodName)) ∈ lw_all := lw_g (lw_at lw_m1 199 rfl) rfl
theorem q336 : (Jvm.Cond.code ({ cls := "WatchStack$Life", name := "<init>", desc := "()V" } : Jvm.MethodName) prog_7_method_1_code (1 : Nat) (Option.none : Option Jvm.ClassFile.FieldType)) ∈ lw_all := lw_g (lw_at lw_m1 200 rfl) rfl
theorem q337 : (Jvm.Cond.methodLink "WatchStack$Life" (3 : Nat) ({ cls := "java/lang/Object", name := "<init>", desc := "()V" } : Jvm.MethodName)) ∈ lw_all := lw_g (lw_at lw_m1 201 rfl) rfl
theorem q338 : (Jvm.Cond.fieldLink "WatchStack$Life" (9 : Nat) "WatchStack$Life" "isGoing" "Z") ∈ lw_all := lw_g (lw_at lw_m1 202 rfl) rfl
theorem q340 : (Jvm.Cond.fieldLink "WatchStack$Life" (15 : Nat) "WatchStack$Life" "isFirst" "Z") ∈ lw_all := lw_g (lw_at lw_m1 204 rfl) rfl
theorem q342 : (Jvm.Cond.fieldLink "WatchStack$Life" (70 : Nat) "WatchStack$Life" "job" "I") ∈ lw_all := lw_g (lw_at lw_m1 206 rfl) rfl
theorem q344 : (Jvm.Cond.fieldLink "WatchStack$Life" (73 : Nat) "WatchStack$Life" "node" "I") ∈ lw_all := lw_g (lw_at lw_m1 208 rfl) rfl
theorem q346 : (Jvm.Cond.fieldLink "WatchStack$Life" (76 : Nat) "WatchStack$Life" "done" "I") ∈ lw_all := lw_g (lw_at lw_m1 210 rfl) rfl
theorem q348 : (Jvm.Cond.fieldLink "WatchStack$Life" (18 : Nat) "WatchStack$Life" "start" "I") ∈ lw_all := lw_g (lw_at lw_m1 212 rfl) rfl
theorem q350 : (Jvm.Cond.fieldLink "WatchStack$Life" (22 : Nat) "WatchStack$Life" "last" "I") ∈ lw_all := lw_g (lw_at lw_m1 214 rfl) rfl
theorem q352 : (Jvm.Cond.fieldLink "WatchStack$Life" (32 : Nat) "WatchStack$Life" "kickedAt" "I") ∈ lw_all := lw_g (lw_at lw_m1 216 rfl) rfl
theorem q354 : (Jvm.Cond.fieldLink "WatchStack$Life" (25 : Nat) "WatchStack$Life" "question" "I") ∈ lw_all := lw_g (lw_at lw_m1 218 rfl) rfl
theorem q356 : (Jvm.Cond.fieldLink "WatchStack$Life" (35 : Nat) "WatchStack$Life" "jobs" "I") ∈ lw_all := lw_g (lw_at lw_m1 220 rfl) rfl
theorem q358 : (Jvm.Cond.fieldLink "WatchStack$Life" (38 : Nat) "WatchStack$Life" "count" "I") ∈ lw_all := lw_g (lw_at lw_m1 222 rfl) rfl
theorem q360 : (Jvm.Cond.fieldLink "WatchStack$Life" (41 : Nat) "WatchStack$Life" "well" "I") ∈ lw_all := lw_g (lw_at lw_m1 224 rfl) rfl
theorem q362 : (Jvm.Cond.fieldLink "WatchStack$Life" (44 : Nat) "WatchStack$Life" "kicks" "I") ∈ lw_all := lw_g (lw_at lw_m1 226 rfl) rfl
theorem q364 : (Jvm.Cond.fieldLink "WatchStack$Life" (47 : Nat) "WatchStack$Life" "kicked" "I") ∈ lw_all := lw_g (lw_at lw_m1 228 rfl) rfl
theorem q366 : (Jvm.Cond.fieldLink "WatchStack$Life" (50 : Nat) "WatchStack$Life" "inCycle" "I") ∈ lw_all := lw_g (lw_at lw_m1 230 rfl) rfl
theorem q368 : (Jvm.Cond.fieldLink "WatchStack$Life" (53 : Nat) "WatchStack$Life" "margins" "I") ∈ lw_all := lw_g (lw_at lw_m1 232 rfl) rfl
theorem q370 : (Jvm.Cond.fieldLink "WatchStack$Life" (56 : Nat) "WatchStack$Life" "isFaulty" "Z") ∈ lw_all := lw_g (lw_at lw_m1 234 rfl) rfl
theorem q372 : (Jvm.Cond.fieldLink "WatchStack$Life" (59 : Nat) "WatchStack$Life" "health" "F") ∈ lw_all := lw_g (lw_at lw_m1 236 rfl) rfl
theorem q374 : (Jvm.Cond.fieldLink "WatchStack$Life" (63 : Nat) "WatchStack$Life" "margin" "F") ∈ lw_all := lw_g (lw_at lw_m1 238 rfl) rfl
theorem q376 : (Jvm.Cond.fieldLink "WatchStack$Life" (66 : Nat) "WatchStack$Life" "sum" "D") ∈ lw_all := lw_g (lw_at lw_m2 0 rfl) rfl
theorem q378 : (Jvm.Cond.lays "WatchStack$Life" "WatchStack$Life" "isGoing" "Z") ∈ lw_all := lw_g (lw_at lw_m2 2 rfl) rfl
theorem q379 : (Jvm.Cond.soleField "WatchStack$Life" "isGoing") ∈ lw_all := lw_g (lw_at lw_m2 3 rfl) rfl
theorem q380 : (Jvm.Cond.lays "WatchStack$Life" "WatchStack$Life" "isFirst" "Z") ∈ lw_all := lw_g (lw_at lw_m2 4 rfl) rfl
theorem q381 : (Jvm.Cond.soleField "WatchStack$Life" "isFirst") ∈ lw_all := lw_g (lw_at lw_m2 5 rfl) rfl
theorem q382 : (Jvm.Cond.lays "WatchStack$Life" "WatchStack$Life" "job" "I") ∈ lw_all := lw_g (lw_at lw_m2 6 rfl) rfl
theorem q383 : (Jvm.Cond.soleField "WatchStack$Life" "job") ∈ lw_all := lw_g (lw_at lw_m2 7 rfl) rfl
theorem q384 : (Jvm.Cond.lays "WatchStack$Life" "WatchStack$Life" "node" "I") ∈ lw_all := lw_g (lw_at lw_m2 8 rfl) rfl
theorem q385 : (Jvm.Cond.soleField "WatchStack$Life" "node") ∈ lw_all := lw_g (lw_at lw_m2 9 rfl) rfl
theorem q386 : (Jvm.Cond.lays "WatchStack$Life" "WatchStack$Life" "done" "I") ∈ lw_all := lw_g (lw_at lw_m2 10 rfl) rfl
theorem q387 : (Jvm.Cond.soleField "WatchStack$Life" "done") ∈ lw_all := lw_g (lw_at lw_m2 11 rfl) rfl
theorem q388 : (Jvm.Cond.lays "WatchStack$Life" "WatchStack$Life" "start" "I") ∈ lw_all := lw_g (lw_at lw_m2 12 rfl) rfl
theorem q389 : (Jvm.Cond.soleField "WatchStack$Life" "start") ∈ lw_all := lw_g (lw_at lw_m2 13 rfl) rfl
theorem q390 : (Jvm.Cond.lays "WatchStack$Life" "WatchStack$Life" "last" "I") ∈ lw_all := lw_g (lw_at lw_m2 14 rfl) rfl
theorem q391 : (Jvm.Cond.soleField "WatchStack$Life" "last") ∈ lw_all := lw_g (lw_at lw_m2 15 rfl) rfl
theorem q392 : (Jvm.Cond.lays "WatchStack$Life" "WatchStack$Life" "kickedAt" "I") ∈ lw_all := lw_g (lw_at lw_m2 16 rfl) rfl
theorem q393 : (Jvm.Cond.soleField "WatchStack$Life" "kickedAt") ∈ lw_all := lw_g (lw_at lw_m2 17 rfl) rfl
theorem q394 : (Jvm.Cond.lays "WatchStack$Life" "WatchStack$Life" "question" "I") ∈ lw_all := lw_g (lw_at lw_m2 18 rfl) rfl
theorem q395 : (Jvm.Cond.soleField "WatchStack$Life" "question") ∈ lw_all := lw_g (lw_at lw_m2 19 rfl) rfl
theorem q396 : (Jvm.Cond.lays "WatchStack$Life" "WatchStack$Life" "jobs" "I") ∈ lw_all := lw_g (lw_at lw_m2 20 rfl) rfl
theorem q397 : (Jvm.Cond.soleField "WatchStack$Life" "jobs") ∈ lw_all := lw_g (lw_at lw_m2 21 rfl) rfl
theorem q398 : (Jvm.Cond.lays "WatchStack$Life" "WatchStack$Life" "count" "I") ∈ lw_all := lw_g (lw_at lw_m2 22 rfl) rfl
theorem q399 : (Jvm.Cond.soleField "WatchStack$Life" "count") ∈ lw_all := lw_g (lw_at lw_m2 23 rfl) rfl
theorem q400 : (Jvm.Cond.lays "WatchStack$Life" "WatchStack$Life" "well" "I") ∈ lw_all := lw_g (lw_at lw_m2 24 rfl) rfl
theorem q401 : (Jvm.Cond.soleField "WatchStack$Life" "well") ∈ lw_all := lw_g (lw_at lw_m2 25 rfl) rfl
theorem q402 : (Jvm.Cond.lays "WatchStack$Life" "WatchStack$Life" "kicks" "I") ∈ lw_all := lw_g (lw_at lw_m2 26 rfl) rfl
theorem q403 : (Jvm.Cond.soleField "WatchStack$Life" "kicks") ∈ lw_all := lw_g (lw_at lw_m2 27 rfl) rfl
theorem q404 : (Jvm.Cond.lays "WatchStack$Life" "WatchStack$Life" "kicked" "I") ∈ lw_all := lw_g (lw_at lw_m2 28 rfl) rfl
theorem q405 : (Jvm.Cond.soleField "WatchStack$Life" "kicked") ∈ lw_all := lw_g (lw_at lw_m2 29 rfl) rfl
theorem q406 : (Jvm.Cond.lays "WatchStack$Life" "WatchStack$Life" "inCycle" "I") ∈ lw_all := lw_g (lw_at lw_m2 30 rfl) rfl
theorem q407 : (Jvm.Cond.soleField "WatchStack$Life" "inCycle") ∈ lw_all := lw_g (lw_at lw_m2 31 rfl) rfl
theorem q408 : (Jvm.Cond.lays "WatchStack$Life" "WatchStack$Life" "margins" "I") ∈ lw_all := lw_g (lw_at lw_m2 32 rfl) rfl
theorem q409 : (Jvm.Cond.soleField "WatchStack$Life" "margins") ∈ lw_all := lw_g (lw_at lw_m2 33 rfl) rfl
theorem q410 : (Jvm.Cond.lays "WatchStack$Life" "WatchStack$Life" "isFaulty" "Z") ∈ lw_all := lw_g (lw_at lw_m2 34 rfl) rfl
theorem q411 : (Jvm.Cond.soleField "WatchStack$Life" "isFaulty") ∈ lw_all := lw_g (lw_at lw_m2 35 rfl) rfl
theorem q412 : (Jvm.Cond.lays "WatchStack$Life" "WatchStack$Life" "health" "F") ∈ lw_all := lw_g (lw_at lw_m2 36 rfl) rfl
theorem q413 : (Jvm.Cond.soleField "WatchStack$Life" "health") ∈ lw_all := lw_g (lw_at lw_m2 37 rfl) rfl
theorem q414 : (Jvm.Cond.lays "WatchStack$Life" "WatchStack$Life" "margin" "F") ∈ lw_all := lw_g (lw_at lw_m2 38 rfl) rfl
theorem q415 : (Jvm.Cond.soleField "WatchStack$Life" "margin") ∈ lw_all := lw_g (lw_at lw_m2 39 rfl) rfl
theorem q416 : (Jvm.Cond.lays "WatchStack$Life" "WatchStack$Life" "sum" "D") ∈ lw_all := lw_g (lw_at lw_m2 40 rfl) rfl
theorem q417 : (Jvm.Cond.soleField "WatchStack$Life" "sum") ∈ lw_all := lw_g (lw_at lw_m2 41 rfl) rfl
theorem q418 : (Jvm.Cond.superclass "WatchStack$Life" "java/lang/Object") ∈ lw_all := lw_g (lw_at lw_m2 42 rfl) rfl
theorem q897 : (Jvm.Cond.selects "WatchStack$Life" ({ cls := "java/lang/Object", name := "getClass", desc := "()Ljava/lang/Class;" } : Jvm.MethodName) ({ cls := "java/lang/Object", name := "getClass", desc := "()Ljava/lang/Class;" } : Jvm.MethodName)) ∈ lw_all := lw_g (lw_at lw_m4 41 rfl) rfl
theorem q1152 : (Jvm.Cond.instanceMethod ({ cls := "WatchStack$Life", name := "isBorn", desc := "()V" } : Jvm.MethodName)) ∈ lw_all := lw_g (lw_at lw_m5 56 rfl) rfl
theorem q1153 : (Jvm.Cond.selects "WatchStack$Life" ({ cls := "WatchStack$Life", name := "isBorn", desc := "()V" } : Jvm.MethodName) ({ cls := "WatchStack$Life", name := "isBorn", desc := "()V" } : Jvm.MethodName)) ∈ lw_all := lw_g (lw_at lw_m5 57 rfl) rfl
theorem q1154 : (Jvm.Cond.code ({ cls := "WatchStack$Life", name := "isBorn", desc := "()V" } : Jvm.MethodName) prog_7_method_3_code (1 : Nat) (Option.none : Option Jvm.ClassFile.FieldType)) ∈ lw_all := lw_g (lw_at lw_m5 58 rfl) rfl
theorem q1155 : (Jvm.Cond.methodLink "WatchStack$Life" (28 : Nat) ({ cls := "WatchStack$Life", name := "begins", desc := "(I)V" } : Jvm.MethodName)) ∈ lw_all := lw_g (lw_at lw_m5 59 rfl) rfl
theorem q1156 : (Jvm.Cond.instanceMethod ({ cls := "WatchStack$Life", name := "begins", desc := "(I)V" } : Jvm.MethodName)) ∈ lw_all := lw_g (lw_at lw_m5 60 rfl) rfl
theorem q1157 : (Jvm.Cond.selects "WatchStack$Life" ({ cls := "WatchStack$Life", name := "begins", desc := "(I)V" } : Jvm.MethodName) ({ cls := "WatchStack$Life", name := "begins", desc := "(I)V" } : Jvm.MethodName)) ∈ lw_all := lw_g (lw_at lw_m5 61 rfl) rfl
theorem q1158 : (Jvm.Cond.code ({ cls := "WatchStack$Life", name := "begins", desc := "(I)V" } : Jvm.MethodName) prog_7_method_2_code (2 : Nat) (Option.none : Option Jvm.ClassFile.FieldType)) ∈ lw_all := lw_g (lw_at lw_m5 62 rfl) rfl
theorem q1169 : (Jvm.Cond.instanceMethod ({ cls := "WatchStack$Life", name := "starts", desc := "()V" } : Jvm.MethodName)) ∈ lw_all := lw_g (lw_at lw_m5 73 rfl) rfl
theorem q1170 : (Jvm.Cond.selects "WatchStack$Life" ({ cls := "WatchStack$Life", name := "starts", desc := "()V" } : Jvm.MethodName) ({ cls := "WatchStack$Life", name := "starts", desc := "()V" } : Jvm.MethodName)) ∈ lw_all := lw_g (lw_at lw_m5 74 rfl) rfl
theorem q1171 : (Jvm.Cond.code ({ cls := "WatchStack$Life", name := "starts", desc := "()V" } : Jvm.MethodName) prog_7_method_4_code (1 : Nat) (Option.none : Option Jvm.ClassFile.FieldType)) ∈ lw_all := lw_g (lw_at lw_m5 75 rfl) rfl
theorem q1261 : (Jvm.Cond.instanceMethod ({ cls := "WatchStack$Life", name := "good", desc := "(III)V" } : Jvm.MethodName)) ∈ lw_all := lw_g (lw_at lw_m5 165 rfl) rfl
theorem q1262 : (Jvm.Cond.selects "WatchStack$Life" ({ cls := "WatchStack$Life", name := "good", desc := "(III)V" } : Jvm.MethodName) ({ cls := "WatchStack$Life", name := "good", desc := "(III)V" } : Jvm.MethodName)) ∈ lw_all := lw_g (lw_at lw_m5 166 rfl) rfl
theorem q1263 : (Jvm.Cond.code ({ cls := "WatchStack$Life", name := "good", desc := "(III)V" } : Jvm.MethodName) prog_7_method_5_code (5 : Nat) (Option.none : Option Jvm.ClassFile.FieldType)) ∈ lw_all := lw_g (lw_at lw_m5 167 rfl) rfl
theorem q1264 : (Jvm.Cond.constantFloat "WatchStack$Life" (79 : Nat) (1048576000 : UInt32)) ∈ lw_all := lw_g (lw_at lw_m5 168 rfl) rfl
theorem q1265 : (Jvm.Cond.methodLink "WatchStack$Life" (80 : Nat) ({ cls := "WatchStack$Life", name := "marks", desc := "(F)V" } : Jvm.MethodName)) ∈ lw_all := lw_g (lw_at lw_m5 169 rfl) rfl
theorem q1266 : (Jvm.Cond.privateMethod ({ cls := "WatchStack$Life", name := "marks", desc := "(F)V" } : Jvm.MethodName)) ∈ lw_tbl := lw_at lw_m5 170 rfl
theorem q1267 : (Jvm.Cond.instanceMethod ({ cls := "WatchStack$Life", name := "marks", desc := "(F)V" } : Jvm.MethodName)) ∈ lw_all := lw_g (lw_at lw_m5 171 rfl) rfl
theorem q1268 : (Jvm.Cond.code ({ cls := "WatchStack$Life", name := "marks", desc := "(F)V" } : Jvm.MethodName) prog_7_method_6_code (2 : Nat) (Option.none : Option Jvm.ClassFile.FieldType)) ∈ lw_all := lw_g (lw_at lw_m5 172 rfl) rfl
theorem q1286 : (Jvm.Cond.instanceMethod ({ cls := "WatchStack$Life", name := "rests", desc := "()V" } : Jvm.MethodName)) ∈ lw_all := lw_g (lw_at lw_m5 190 rfl) rfl
theorem q1287 : (Jvm.Cond.selects "WatchStack$Life" ({ cls := "WatchStack$Life", name := "rests", desc := "()V" } : Jvm.MethodName) ({ cls := "WatchStack$Life", name := "rests", desc := "()V" } : Jvm.MethodName)) ∈ lw_all := lw_g (lw_at lw_m5 191 rfl) rfl
theorem q1288 : (Jvm.Cond.code ({ cls := "WatchStack$Life", name := "rests", desc := "()V" } : Jvm.MethodName) prog_7_method_7_code (1 : Nat) (Option.none : Option Jvm.ClassFile.FieldType)) ∈ lw_all := lw_g (lw_at lw_m5 192 rfl) rfl
theorem q2366 : (Jvm.Cond.castable "WatchStack$Life" "java/lang/Object") ∈ lw_tbl := lw_at lw_m10 70 rfl
theorem in_X9 : ∀ w ∈ wsX90, w ∈ lw_all := lw_in wsX90 [378, 380, 382, 384, 386, 388, 390, 392, 394, 396, 398, 400, 402, 404, 406, 408, 410, 412, 414, 416] (by decide +kernel) (by decide +kernel)

/-! WatchStack$Reader -/
set_option maxRecDepth 100000
def RX11 : String := "WatchStack$Reader"
def TX11 : u_T := fun k => match k with
  | 0 => ("WatchStack$Reader", "kinds", "[Ljava/lang/String;", true)
  | 1 => ("WatchStack$Reader", "text", "[B", true)
  | 2 => ("WatchStack$Reader", "many", "I", true)
  | 3 => ("WatchStack$Reader", "t", "LWatchStack$Told;", true)
  | 4 => ("WatchStack$Reader", "at", "I", false)
  | 5 => ("WatchStack$Reader", "begin", "I", false)
  | 6 => ("WatchStack$Reader", "token", "I", false)
  | _ => ("WatchStack$Reader", "value", "I", false)
def tyX11 : Nat → FieldType := fun k => match k with
  | 0 => .array (.object "java/lang/String")
  | 1 => .array .byte
  | 2 => .int
  | 3 => .object "WatchStack$Told"
  | 4 => .int
  | 5 => .int
  | 6 => .int
  | _ => .int
abbrev wsX110 : List Cond := u_ws RX11 TX11 8
theorem nmX11 : ∀ a, a < 8 → ∀ b, b < 8 → a ≠ b → (TX11 a).2.1 ≠ (TX11 b).2.1 := by decide +kernel
theorem tyX11_ok : ∀ k, k < 8 → parseFieldDescriptor (TX11 k).2.2.1 = some (tyX11 k) := by decide +kernel
abbrev cX11_init : ByteArray := prog_9_method_1_code
def yX11_init : MethodName := ⟨RX11, "<init>", "([BI)V"⟩
def dkwX11_init_2 : List UInt8 := [183, 0, 31, 181, 0, 32, 42, 43, 181, 0, 36, 42, 28, 181, 0, 40, 42, 182, 0, 44, 177]
abbrev dktX11_init_2 : List UInt8 := dkwX11_init_2 ++ []
def dkwX11_init_1 : List UInt8 := [83, 89, 6, 18, 17, 83, 89, 7, 18, 19, 83, 89, 8, 18, 21, 83, 181, 0, 23, 42, 187, 0, 29, 89]
abbrev dktX11_init_1 : List UInt8 := dkwX11_init_1 ++ dktX11_init_2
def dkwX11_init_0 : List UInt8 := [42, 183, 0, 3, 42, 16, 6, 189, 0, 9, 89, 3, 18, 11, 83, 89, 4, 18, 13, 83, 89, 5, 18, 15]
abbrev dktX11_init_0 : List UInt8 := dkwX11_init_0 ++ dktX11_init_1
theorem dksX11_init_0 : cX11_init.data.toList.drop 0 = dktX11_init_0 := by decide +kernel
theorem dksX11_init_1 : cX11_init.data.toList.drop 24 = dktX11_init_1 := dk_seg dksX11_init_0 24 rfl rfl
theorem dksX11_init_2 : cX11_init.data.toList.drop 48 = dktX11_init_2 := dk_seg dksX11_init_1 24 rfl rfl
theorem dX11_init_0 : decode cX11_init 0 = .ok (.aload_n 0, 1) := dk_42 (dk_at dksX11_init_0 0 rfl rfl)
theorem dX11_init_1 : decode cX11_init 1 = .ok (.invokespecial 3, 3) := dk_183 0 3 (dk_at dksX11_init_0 1 rfl rfl)
theorem dX11_init_4 : decode cX11_init 4 = .ok (.aload_n 0, 1) := dk_42 (dk_at dksX11_init_0 4 rfl rfl)
theorem dX11_init_5 : decode cX11_init 5 = .ok (.bipush 6, 2) := dk_16 6 (dk_at dksX11_init_0 5 rfl rfl)
theorem dX11_init_7 : decode cX11_init 7 = .ok (.anewarray 9, 3) := dk_189 0 9 (dk_at dksX11_init_0 7 rfl rfl)
theorem dX11_init_10 : decode cX11_init 10 = .ok (.dup, 1) := dk_89 (dk_at dksX11_init_0 10 rfl rfl)
theorem dX11_init_11 : decode cX11_init 11 = .ok (.iconst 0, 1) := dk_3 (dk_at dksX11_init_0 11 rfl rfl)
theorem dX11_init_12 : decode cX11_init 12 = .ok (.ldc 11, 2) := dk_18 11 (dk_at dksX11_init_0 12 rfl rfl)
theorem dX11_init_14 : decode cX11_init 14 = .ok (.aastore, 1) := dk_83 (dk_at dksX11_init_0 14 rfl rfl)
theorem dX11_init_15 : decode cX11_init 15 = .ok (.dup, 1) := dk_89 (dk_at dksX11_init_0 15 rfl rfl)
theorem dX11_init_16 : decode cX11_init 16 = .ok (.iconst 1, 1) := dk_4 (dk_at dksX11_init_0 16 rfl rfl)
theorem dX11_init_17 : decode cX11_init 17 = .ok (.ldc 13, 2) := dk_18 13 (dk_at dksX11_init_0 17 rfl rfl)
theorem dX11_init_19 : decode cX11_init 19 = .ok (.aastore, 1) := dk_83 (dk_at dksX11_init_0 19 rfl rfl)
theorem dX11_init_20 : decode cX11_init 20 = .ok (.dup, 1) := dk_89 (dk_at dksX11_init_0 20 rfl rfl)
theorem dX11_init_21 : decode cX11_init 21 = .ok (.iconst 2, 1) := dk_5 (dk_at dksX11_init_0 21 rfl rfl)
theorem dX11_init_22 : decode cX11_init 22 = .ok (.ldc 15, 2) := dk_18 15 (dk_at dksX11_init_0 22 rfl rfl)
theorem dX11_init_24 : decode cX11_init 24 = .ok (.aastore, 1) := dk_83 (dk_at dksX11_init_1 0 rfl rfl)
theorem dX11_init_25 : decode cX11_init 25 = .ok (.dup, 1) := dk_89 (dk_at dksX11_init_1 1 rfl rfl)
theorem dX11_init_26 : decode cX11_init 26 = .ok (.iconst 3, 1) := dk_6 (dk_at dksX11_init_1 2 rfl rfl)
theorem dX11_init_27 : decode cX11_init 27 = .ok (.ldc 17, 2) := dk_18 17 (dk_at dksX11_init_1 3 rfl rfl)
theorem dX11_init_29 : decode cX11_init 29 = .ok (.aastore, 1) := dk_83 (dk_at dksX11_init_1 5 rfl rfl)
theorem dX11_init_30 : decode cX11_init 30 = .ok (.dup, 1) := dk_89 (dk_at dksX11_init_1 6 rfl rfl)
theorem dX11_init_31 : decode cX11_init 31 = .ok (.iconst 4, 1) := dk_7 (dk_at dksX11_init_1 7 rfl rfl)
theorem dX11_init_32 : decode cX11_init 32 = .ok (.ldc 19, 2) := dk_18 19 (dk_at dksX11_init_1 8 rfl rfl)
theorem dX11_init_34 : decode cX11_init 34 = .ok (.aastore, 1) := dk_83 (dk_at dksX11_init_1 10 rfl rfl)
theorem dX11_init_35 : decode cX11_init 35 = .ok (.dup, 1) := dk_89 (dk_at dksX11_init_1 11 rfl rfl)
theorem dX11_init_36 : decode cX11_init 36 = .ok (.iconst 5, 1) := dk_8 (dk_at dksX11_init_1 12 rfl rfl)
theorem dX11_init_37 : decode cX11_init 37 = .ok (.ldc 21, 2) := dk_18 21 (dk_at dksX11_init_1 13 rfl rfl)
theorem dX11_init_39 : decode cX11_init 39 = .ok (.aastore, 1) := dk_83 (dk_at dksX11_init_1 15 rfl rfl)
theorem dX11_init_40 : decode cX11_init 40 = .ok (.putfield 23, 3) := dk_181 0 23 (dk_at dksX11_init_1 16 rfl rfl)
theorem dX11_init_43 : decode cX11_init 43 = .ok (.aload_n 0, 1) := dk_42 (dk_at dksX11_init_1 19 rfl rfl)
theorem dX11_init_44 : decode cX11_init 44 = .ok (.new 29, 3) := dk_187 0 29 (dk_at dksX11_init_1 20 rfl rfl)
theorem dX11_init_47 : decode cX11_init 47 = .ok (.dup, 1) := dk_89 (dk_at dksX11_init_1 23 rfl rfl)
theorem dX11_init_48 : decode cX11_init 48 = .ok (.invokespecial 31, 3) := dk_183 0 31 (dk_at dksX11_init_2 0 rfl rfl)
theorem dX11_init_51 : decode cX11_init 51 = .ok (.putfield 32, 3) := dk_181 0 32 (dk_at dksX11_init_2 3 rfl rfl)
theorem dX11_init_54 : decode cX11_init 54 = .ok (.aload_n 0, 1) := dk_42 (dk_at dksX11_init_2 6 rfl rfl)
theorem dX11_init_55 : decode cX11_init 55 = .ok (.aload_n 1, 1) := dk_43 (dk_at dksX11_init_2 7 rfl rfl)
theorem dX11_init_56 : decode cX11_init 56 = .ok (.putfield 36, 3) := dk_181 0 36 (dk_at dksX11_init_2 8 rfl rfl)
theorem dX11_init_59 : decode cX11_init 59 = .ok (.aload_n 0, 1) := dk_42 (dk_at dksX11_init_2 11 rfl rfl)
theorem dX11_init_60 : decode cX11_init 60 = .ok (.iload_n 2, 1) := dk_28 (dk_at dksX11_init_2 12 rfl rfl)
theorem dX11_init_61 : decode cX11_init 61 = .ok (.putfield 40, 3) := dk_181 0 40 (dk_at dksX11_init_2 13 rfl rfl)
theorem dX11_init_64 : decode cX11_init 64 = .ok (.aload_n 0, 1) := dk_42 (dk_at dksX11_init_2 16 rfl rfl)
theorem dX11_init_65 : decode cX11_init 65 = .ok (.invokevirtual 44, 3) := dk_182 0 44 (dk_at dksX11_init_2 17 rfl rfl)
theorem dX11_init_68 : decode cX11_init 68 = .ok (.return_, 1) := dk_177 (dk_at dksX11_init_2 20 rfl rfl)
abbrev cX11_next : ByteArray := prog_9_method_3_code
def yX11_next : MethodName := ⟨RX11, "next", "()V"⟩
def dkwX11_next_8 : List UInt8 := [7, 181, 0, 64, 42, 89, 180, 0, 47, 4, 96, 181, 0, 47, 177]
abbrev dktX11_next_8 : List UInt8 := dkwX11_next_8 ++ []
def dkwX11_next_7 : List UInt8 := [4, 96, 181, 0, 47, 167, 255, 206, 42, 42, 16, 59, 16, 59, 182, 0, 54, 153, 0, 7, 6, 167, 0, 4]
abbrev dktX11_next_7 : List UInt8 := dkwX11_next_7 ++ dktX11_next_8
def dkwX11_next_6 : List UInt8 := [42, 180, 0, 36, 42, 180, 0, 47, 51, 96, 16, 48, 100, 184, 0, 68, 181, 0, 61, 42, 89, 180, 0, 47]
abbrev dktX11_next_6 : List UInt8 := dkwX11_next_6 ++ dktX11_next_7
def dkwX11_next_5 : List UInt8 := [181, 0, 64, 42, 16, 48, 16, 57, 182, 0, 54, 153, 0, 75, 42, 18, 67, 16, 10, 42, 180, 0, 61, 104]
abbrev dktX11_next_5 : List UInt8 := dkwX11_next_5 ++ dktX11_next_6
def dkwX11_next_4 : List UInt8 := [180, 0, 47, 4, 96, 181, 0, 47, 167, 255, 235, 42, 16, 48, 16, 57, 182, 0, 54, 153, 0, 61, 42, 5]
abbrev dktX11_next_4 : List UInt8 := dkwX11_next_4 ++ dktX11_next_5
def dkwX11_next_3 : List UInt8 := [182, 0, 54, 153, 0, 32, 42, 4, 181, 0, 64, 42, 16, 97, 16, 122, 182, 0, 54, 153, 0, 115, 42, 89]
abbrev dktX11_next_3 : List UInt8 := dkwX11_next_3 ++ dktX11_next_4
def dkwX11_next_2 : List UInt8 := [42, 180, 0, 47, 42, 180, 0, 40, 160, 0, 11, 42, 3, 181, 0, 64, 167, 0, 142, 42, 16, 97, 16, 122]
abbrev dktX11_next_2 : List UInt8 := dkwX11_next_2 ++ dktX11_next_3
def dkwX11_next_1 : List UInt8 := [180, 0, 47, 4, 96, 181, 0, 47, 167, 255, 224, 42, 42, 180, 0, 47, 181, 0, 58, 42, 3, 181, 0, 61]
abbrev dktX11_next_1 : List UInt8 := dkwX11_next_1 ++ dktX11_next_2
def dkwX11_next_0 : List UInt8 := [42, 16, 32, 16, 32, 182, 0, 54, 154, 0, 14, 42, 16, 10, 16, 10, 182, 0, 54, 153, 0, 16, 42, 89]
abbrev dktX11_next_0 : List UInt8 := dkwX11_next_0 ++ dktX11_next_1
theorem dksX11_next_0 : cX11_next.data.toList.drop 0 = dktX11_next_0 := by decide +kernel
theorem dksX11_next_1 : cX11_next.data.toList.drop 24 = dktX11_next_1 := dk_seg dksX11_next_0 24 rfl rfl
theorem dksX11_next_2 : cX11_next.data.toList.drop 48 = dktX11_next_2 := dk_seg dksX11_next_1 24 rfl rfl
theorem dksX11_next_3 : cX11_next.data.toList.drop 72 = dktX11_next_3 := dk_seg dksX11_next_2 24 rfl rfl
theorem dksX11_next_4 : cX11_next.data.toList.drop 96 = dktX11_next_4 := dk_seg dksX11_next_3 24 rfl rfl
theorem dksX11_next_5 : cX11_next.data.toList.drop 120 = dktX11_next_5 := dk_seg dksX11_next_4 24 rfl rfl
theorem dksX11_next_6 : cX11_next.data.toList.drop 144 = dktX11_next_6 := dk_seg dksX11_next_5 24 rfl rfl
theorem dksX11_next_7 : cX11_next.data.toList.drop 168 = dktX11_next_7 := dk_seg dksX11_next_6 24 rfl rfl
theorem dksX11_next_8 : cX11_next.data.toList.drop 192 = dktX11_next_8 := dk_seg dksX11_next_7 24 rfl rfl
theorem dX11_next_0 : decode cX11_next 0 = .ok (.aload_n 0, 1) := dk_42 (dk_at dksX11_next_0 0 rfl rfl)
theorem dX11_next_1 : decode cX11_next 1 = .ok (.bipush 32, 2) := dk_16 32 (dk_at dksX11_next_0 1 rfl rfl)
theorem dX11_next_3 : decode cX11_next 3 = .ok (.bipush 32, 2) := dk_16 32 (dk_at dksX11_next_0 3 rfl rfl)
theorem dX11_next_5 : decode cX11_next 5 = .ok (.invokevirtual 54, 3) := dk_182 0 54 (dk_at dksX11_next_0 5 rfl rfl)
theorem dX11_next_8 : decode cX11_next 8 = .ok (.ifCond .ne 14, 3) := dk_154 0 14 (dk_at dksX11_next_0 8 rfl rfl)
theorem dX11_next_11 : decode cX11_next 11 = .ok (.aload_n 0, 1) := dk_42 (dk_at dksX11_next_0 11 rfl rfl)
theorem dX11_next_12 : decode cX11_next 12 = .ok (.bipush 10, 2) := dk_16 10 (dk_at dksX11_next_0 12 rfl rfl)
theorem dX11_next_14 : decode cX11_next 14 = .ok (.bipush 10, 2) := dk_16 10 (dk_at dksX11_next_0 14 rfl rfl)
theorem dX11_next_16 : decode cX11_next 16 = .ok (.invokevirtual 54, 3) := dk_182 0 54 (dk_at dksX11_next_0 16 rfl rfl)
theorem dX11_next_19 : decode cX11_next 19 = .ok (.ifCond .eq 16, 3) := dk_153 0 16 (dk_at dksX11_next_0 19 rfl rfl)
theorem dX11_next_22 : decode cX11_next 22 = .ok (.aload_n 0, 1) := dk_42 (dk_at dksX11_next_0 22 rfl rfl)
theorem dX11_next_23 : decode cX11_next 23 = .ok (.dup, 1) := dk_89 (dk_at dksX11_next_0 23 rfl rfl)
theorem dX11_next_24 : decode cX11_next 24 = .ok (.getfield 47, 3) := dk_180 0 47 (dk_at dksX11_next_1 0 rfl rfl)
theorem dX11_next_27 : decode cX11_next 27 = .ok (.iconst 1, 1) := dk_4 (dk_at dksX11_next_1 3 rfl rfl)
theorem dX11_next_28 : decode cX11_next 28 = .ok (.iadd, 1) := dk_96 (dk_at dksX11_next_1 4 rfl rfl)
theorem dX11_next_29 : decode cX11_next 29 = .ok (.putfield 47, 3) := dk_181 0 47 (dk_at dksX11_next_1 5 rfl rfl)
theorem dX11_next_32 : decode cX11_next 32 = .ok (.goto (-32), 3) := dk_167 255 224 (dk_at dksX11_next_1 8 rfl rfl)
theorem dX11_next_35 : decode cX11_next 35 = .ok (.aload_n 0, 1) := dk_42 (dk_at dksX11_next_1 11 rfl rfl)
theorem dX11_next_36 : decode cX11_next 36 = .ok (.aload_n 0, 1) := dk_42 (dk_at dksX11_next_1 12 rfl rfl)
theorem dX11_next_37 : decode cX11_next 37 = .ok (.getfield 47, 3) := dk_180 0 47 (dk_at dksX11_next_1 13 rfl rfl)
theorem dX11_next_40 : decode cX11_next 40 = .ok (.putfield 58, 3) := dk_181 0 58 (dk_at dksX11_next_1 16 rfl rfl)
theorem dX11_next_43 : decode cX11_next 43 = .ok (.aload_n 0, 1) := dk_42 (dk_at dksX11_next_1 19 rfl rfl)
theorem dX11_next_44 : decode cX11_next 44 = .ok (.iconst 0, 1) := dk_3 (dk_at dksX11_next_1 20 rfl rfl)
theorem dX11_next_45 : decode cX11_next 45 = .ok (.putfield 61, 3) := dk_181 0 61 (dk_at dksX11_next_1 21 rfl rfl)
theorem dX11_next_48 : decode cX11_next 48 = .ok (.aload_n 0, 1) := dk_42 (dk_at dksX11_next_2 0 rfl rfl)
theorem dX11_next_49 : decode cX11_next 49 = .ok (.getfield 47, 3) := dk_180 0 47 (dk_at dksX11_next_2 1 rfl rfl)
theorem dX11_next_52 : decode cX11_next 52 = .ok (.aload_n 0, 1) := dk_42 (dk_at dksX11_next_2 4 rfl rfl)
theorem dX11_next_53 : decode cX11_next 53 = .ok (.getfield 40, 3) := dk_180 0 40 (dk_at dksX11_next_2 5 rfl rfl)
theorem dX11_next_56 : decode cX11_next 56 = .ok (.if_icmp .ne 11, 3) := dk_160 0 11 (dk_at dksX11_next_2 8 rfl rfl)
theorem dX11_next_59 : decode cX11_next 59 = .ok (.aload_n 0, 1) := dk_42 (dk_at dksX11_next_2 11 rfl rfl)
theorem dX11_next_60 : decode cX11_next 60 = .ok (.iconst 0, 1) := dk_3 (dk_at dksX11_next_2 12 rfl rfl)
theorem dX11_next_61 : decode cX11_next 61 = .ok (.putfield 64, 3) := dk_181 0 64 (dk_at dksX11_next_2 13 rfl rfl)
theorem dX11_next_64 : decode cX11_next 64 = .ok (.goto 142, 3) := dk_167 0 142 (dk_at dksX11_next_2 16 rfl rfl)
theorem dX11_next_67 : decode cX11_next 67 = .ok (.aload_n 0, 1) := dk_42 (dk_at dksX11_next_2 19 rfl rfl)
theorem dX11_next_68 : decode cX11_next 68 = .ok (.bipush 97, 2) := dk_16 97 (dk_at dksX11_next_2 20 rfl rfl)
theorem dX11_next_70 : decode cX11_next 70 = .ok (.bipush 122, 2) := dk_16 122 (dk_at dksX11_next_2 22 rfl rfl)
theorem dX11_next_72 : decode cX11_next 72 = .ok (.invokevirtual 54, 3) := dk_182 0 54 (dk_at dksX11_next_3 0 rfl rfl)
theorem dX11_next_75 : decode cX11_next 75 = .ok (.ifCond .eq 32, 3) := dk_153 0 32 (dk_at dksX11_next_3 3 rfl rfl)
theorem dX11_next_78 : decode cX11_next 78 = .ok (.aload_n 0, 1) := dk_42 (dk_at dksX11_next_3 6 rfl rfl)
theorem dX11_next_79 : decode cX11_next 79 = .ok (.iconst 1, 1) := dk_4 (dk_at dksX11_next_3 7 rfl rfl)
theorem dX11_next_80 : decode cX11_next 80 = .ok (.putfield 64, 3) := dk_181 0 64 (dk_at dksX11_next_3 8 rfl rfl)
theorem dX11_next_83 : decode cX11_next 83 = .ok (.aload_n 0, 1) := dk_42 (dk_at dksX11_next_3 11 rfl rfl)
theorem dX11_next_84 : decode cX11_next 84 = .ok (.bipush 97, 2) := dk_16 97 (dk_at dksX11_next_3 12 rfl rfl)
theorem dX11_next_86 : decode cX11_next 86 = .ok (.bipush 122, 2) := dk_16 122 (dk_at dksX11_next_3 14 rfl rfl)
theorem dX11_next_88 : decode cX11_next 88 = .ok (.invokevirtual 54, 3) := dk_182 0 54 (dk_at dksX11_next_3 16 rfl rfl)
theorem dX11_next_91 : decode cX11_next 91 = .ok (.ifCond .eq 115, 3) := dk_153 0 115 (dk_at dksX11_next_3 19 rfl rfl)
theorem dX11_next_94 : decode cX11_next 94 = .ok (.aload_n 0, 1) := dk_42 (dk_at dksX11_next_3 22 rfl rfl)
theorem dX11_next_95 : decode cX11_next 95 = .ok (.dup, 1) := dk_89 (dk_at dksX11_next_3 23 rfl rfl)
theorem dX11_next_96 : decode cX11_next 96 = .ok (.getfield 47, 3) := dk_180 0 47 (dk_at dksX11_next_4 0 rfl rfl)
theorem dX11_next_99 : decode cX11_next 99 = .ok (.iconst 1, 1) := dk_4 (dk_at dksX11_next_4 3 rfl rfl)
theorem dX11_next_100 : decode cX11_next 100 = .ok (.iadd, 1) := dk_96 (dk_at dksX11_next_4 4 rfl rfl)
theorem dX11_next_101 : decode cX11_next 101 = .ok (.putfield 47, 3) := dk_181 0 47 (dk_at dksX11_next_4 5 rfl rfl)
theorem dX11_next_104 : decode cX11_next 104 = .ok (.goto (-21), 3) := dk_167 255 235 (dk_at dksX11_next_4 8 rfl rfl)
theorem dX11_next_107 : decode cX11_next 107 = .ok (.aload_n 0, 1) := dk_42 (dk_at dksX11_next_4 11 rfl rfl)
theorem dX11_next_108 : decode cX11_next 108 = .ok (.bipush 48, 2) := dk_16 48 (dk_at dksX11_next_4 12 rfl rfl)
theorem dX11_next_110 : decode cX11_next 110 = .ok (.bipush 57, 2) := dk_16 57 (dk_at dksX11_next_4 14 rfl rfl)
theorem dX11_next_112 : decode cX11_next 112 = .ok (.invokevirtual 54, 3) := dk_182 0 54 (dk_at dksX11_next_4 16 rfl rfl)
theorem dX11_next_115 : decode cX11_next 115 = .ok (.ifCond .eq 61, 3) := dk_153 0 61 (dk_at dksX11_next_4 19 rfl rfl)
theorem dX11_next_118 : decode cX11_next 118 = .ok (.aload_n 0, 1) := dk_42 (dk_at dksX11_next_4 22 rfl rfl)
theorem dX11_next_119 : decode cX11_next 119 = .ok (.iconst 2, 1) := dk_5 (dk_at dksX11_next_4 23 rfl rfl)
theorem dX11_next_120 : decode cX11_next 120 = .ok (.putfield 64, 3) := dk_181 0 64 (dk_at dksX11_next_5 0 rfl rfl)
theorem dX11_next_123 : decode cX11_next 123 = .ok (.aload_n 0, 1) := dk_42 (dk_at dksX11_next_5 3 rfl rfl)
theorem dX11_next_124 : decode cX11_next 124 = .ok (.bipush 48, 2) := dk_16 48 (dk_at dksX11_next_5 4 rfl rfl)
theorem dX11_next_126 : decode cX11_next 126 = .ok (.bipush 57, 2) := dk_16 57 (dk_at dksX11_next_5 6 rfl rfl)
theorem dX11_next_128 : decode cX11_next 128 = .ok (.invokevirtual 54, 3) := dk_182 0 54 (dk_at dksX11_next_5 8 rfl rfl)
theorem dX11_next_131 : decode cX11_next 131 = .ok (.ifCond .eq 75, 3) := dk_153 0 75 (dk_at dksX11_next_5 11 rfl rfl)
theorem dX11_next_134 : decode cX11_next 134 = .ok (.aload_n 0, 1) := dk_42 (dk_at dksX11_next_5 14 rfl rfl)
theorem dX11_next_135 : decode cX11_next 135 = .ok (.ldc 67, 2) := dk_18 67 (dk_at dksX11_next_5 15 rfl rfl)
theorem dX11_next_137 : decode cX11_next 137 = .ok (.bipush 10, 2) := dk_16 10 (dk_at dksX11_next_5 17 rfl rfl)
theorem dX11_next_139 : decode cX11_next 139 = .ok (.aload_n 0, 1) := dk_42 (dk_at dksX11_next_5 19 rfl rfl)
theorem dX11_next_140 : decode cX11_next 140 = .ok (.getfield 61, 3) := dk_180 0 61 (dk_at dksX11_next_5 20 rfl rfl)
theorem dX11_next_143 : decode cX11_next 143 = .ok (.imul, 1) := dk_104 (dk_at dksX11_next_5 23 rfl rfl)
theorem dX11_next_144 : decode cX11_next 144 = .ok (.aload_n 0, 1) := dk_42 (dk_at dksX11_next_6 0 rfl rfl)
theorem dX11_next_145 : decode cX11_next 145 = .ok (.getfield 36, 3) := dk_180 0 36 (dk_at dksX11_next_6 1 rfl rfl)
theorem dX11_next_148 : decode cX11_next 148 = .ok (.aload_n 0, 1) := dk_42 (dk_at dksX11_next_6 4 rfl rfl)
theorem dX11_next_149 : decode cX11_next 149 = .ok (.getfield 47, 3) := dk_180 0 47 (dk_at dksX11_next_6 5 rfl rfl)
theorem dX11_next_152 : decode cX11_next 152 = .ok (.baload, 1) := dk_51 (dk_at dksX11_next_6 8 rfl rfl)
theorem dX11_next_153 : decode cX11_next 153 = .ok (.iadd, 1) := dk_96 (dk_at dksX11_next_6 9 rfl rfl)
theorem dX11_next_154 : decode cX11_next 154 = .ok (.bipush 48, 2) := dk_16 48 (dk_at dksX11_next_6 10 rfl rfl)
theorem dX11_next_156 : decode cX11_next 156 = .ok (.isub, 1) := dk_100 (dk_at dksX11_next_6 12 rfl rfl)
theorem dX11_next_157 : decode cX11_next 157 = .ok (.invokestatic 68, 3) := dk_184 0 68 (dk_at dksX11_next_6 13 rfl rfl)
theorem dX11_next_160 : decode cX11_next 160 = .ok (.putfield 61, 3) := dk_181 0 61 (dk_at dksX11_next_6 16 rfl rfl)
theorem dX11_next_163 : decode cX11_next 163 = .ok (.aload_n 0, 1) := dk_42 (dk_at dksX11_next_6 19 rfl rfl)
theorem dX11_next_164 : decode cX11_next 164 = .ok (.dup, 1) := dk_89 (dk_at dksX11_next_6 20 rfl rfl)
theorem dX11_next_165 : decode cX11_next 165 = .ok (.getfield 47, 3) := dk_180 0 47 (dk_at dksX11_next_6 21 rfl rfl)
theorem dX11_next_168 : decode cX11_next 168 = .ok (.iconst 1, 1) := dk_4 (dk_at dksX11_next_7 0 rfl rfl)
theorem dX11_next_169 : decode cX11_next 169 = .ok (.iadd, 1) := dk_96 (dk_at dksX11_next_7 1 rfl rfl)
theorem dX11_next_170 : decode cX11_next 170 = .ok (.putfield 47, 3) := dk_181 0 47 (dk_at dksX11_next_7 2 rfl rfl)
theorem dX11_next_173 : decode cX11_next 173 = .ok (.goto (-50), 3) := dk_167 255 206 (dk_at dksX11_next_7 5 rfl rfl)
theorem dX11_next_176 : decode cX11_next 176 = .ok (.aload_n 0, 1) := dk_42 (dk_at dksX11_next_7 8 rfl rfl)
theorem dX11_next_177 : decode cX11_next 177 = .ok (.aload_n 0, 1) := dk_42 (dk_at dksX11_next_7 9 rfl rfl)
theorem dX11_next_178 : decode cX11_next 178 = .ok (.bipush 59, 2) := dk_16 59 (dk_at dksX11_next_7 10 rfl rfl)
theorem dX11_next_180 : decode cX11_next 180 = .ok (.bipush 59, 2) := dk_16 59 (dk_at dksX11_next_7 12 rfl rfl)
theorem dX11_next_182 : decode cX11_next 182 = .ok (.invokevirtual 54, 3) := dk_182 0 54 (dk_at dksX11_next_7 14 rfl rfl)
theorem dX11_next_185 : decode cX11_next 185 = .ok (.ifCond .eq 7, 3) := dk_153 0 7 (dk_at dksX11_next_7 17 rfl rfl)
theorem dX11_next_188 : decode cX11_next 188 = .ok (.iconst 3, 1) := dk_6 (dk_at dksX11_next_7 20 rfl rfl)
theorem dX11_next_189 : decode cX11_next 189 = .ok (.goto 4, 3) := dk_167 0 4 (dk_at dksX11_next_7 21 rfl rfl)
theorem dX11_next_192 : decode cX11_next 192 = .ok (.iconst 4, 1) := dk_7 (dk_at dksX11_next_8 0 rfl rfl)
theorem dX11_next_193 : decode cX11_next 193 = .ok (.putfield 64, 3) := dk_181 0 64 (dk_at dksX11_next_8 1 rfl rfl)
theorem dX11_next_196 : decode cX11_next 196 = .ok (.aload_n 0, 1) := dk_42 (dk_at dksX11_next_8 4 rfl rfl)
theorem dX11_next_197 : decode cX11_next 197 = .ok (.dup, 1) := dk_89 (dk_at dksX11_next_8 5 rfl rfl)
theorem dX11_next_198 : decode cX11_next 198 = .ok (.getfield 47, 3) := dk_180 0 47 (dk_at dksX11_next_8 6 rfl rfl)
theorem dX11_next_201 : decode cX11_next 201 = .ok (.iconst 1, 1) := dk_4 (dk_at dksX11_next_8 9 rfl rfl)
theorem dX11_next_202 : decode cX11_next 202 = .ok (.iadd, 1) := dk_96 (dk_at dksX11_next_8 10 rfl rfl)
theorem dX11_next_203 : decode cX11_next 203 = .ok (.putfield 47, 3) := dk_181 0 47 (dk_at dksX11_next_8 11 rfl rfl)
theorem dX11_next_206 : decode cX11_next 206 = .ok (.return_, 1) := dk_177 (dk_at dksX11_next_8 14 rfl rfl)
abbrev cX11_isAt : ByteArray := prog_9_method_2_code
def yX11_isAt : MethodName := ⟨RX11, "isAt", "(II)Z"⟩
def dkwX11_isAt_1 : List UInt8 := [133, 184, 0, 50, 153, 0, 7, 4, 167, 0, 4, 3, 172]
abbrev dktX11_isAt_1 : List UInt8 := dkwX11_isAt_1 ++ []
def dkwX11_isAt_0 : List UInt8 := [42, 180, 0, 47, 42, 180, 0, 40, 162, 0, 27, 42, 180, 0, 36, 42, 180, 0, 47, 51, 133, 27, 133, 28]
abbrev dktX11_isAt_0 : List UInt8 := dkwX11_isAt_0 ++ dktX11_isAt_1
theorem dksX11_isAt_0 : cX11_isAt.data.toList.drop 0 = dktX11_isAt_0 := by decide +kernel
theorem dksX11_isAt_1 : cX11_isAt.data.toList.drop 24 = dktX11_isAt_1 := dk_seg dksX11_isAt_0 24 rfl rfl
theorem dX11_isAt_0 : decode cX11_isAt 0 = .ok (.aload_n 0, 1) := dk_42 (dk_at dksX11_isAt_0 0 rfl rfl)
theorem dX11_isAt_1 : decode cX11_isAt 1 = .ok (.getfield 47, 3) := dk_180 0 47 (dk_at dksX11_isAt_0 1 rfl rfl)
theorem dX11_isAt_4 : decode cX11_isAt 4 = .ok (.aload_n 0, 1) := dk_42 (dk_at dksX11_isAt_0 4 rfl rfl)
theorem dX11_isAt_5 : decode cX11_isAt 5 = .ok (.getfield 40, 3) := dk_180 0 40 (dk_at dksX11_isAt_0 5 rfl rfl)
theorem dX11_isAt_8 : decode cX11_isAt 8 = .ok (.if_icmp .ge 27, 3) := dk_162 0 27 (dk_at dksX11_isAt_0 8 rfl rfl)
theorem dX11_isAt_11 : decode cX11_isAt 11 = .ok (.aload_n 0, 1) := dk_42 (dk_at dksX11_isAt_0 11 rfl rfl)
theorem dX11_isAt_12 : decode cX11_isAt 12 = .ok (.getfield 36, 3) := dk_180 0 36 (dk_at dksX11_isAt_0 12 rfl rfl)
theorem dX11_isAt_15 : decode cX11_isAt 15 = .ok (.aload_n 0, 1) := dk_42 (dk_at dksX11_isAt_0 15 rfl rfl)
theorem dX11_isAt_16 : decode cX11_isAt 16 = .ok (.getfield 47, 3) := dk_180 0 47 (dk_at dksX11_isAt_0 16 rfl rfl)
theorem dX11_isAt_19 : decode cX11_isAt 19 = .ok (.baload, 1) := dk_51 (dk_at dksX11_isAt_0 19 rfl rfl)
theorem dX11_isAt_20 : decode cX11_isAt 20 = .ok (.i2l, 1) := dk_133 (dk_at dksX11_isAt_0 20 rfl rfl)
theorem dX11_isAt_21 : decode cX11_isAt 21 = .ok (.iload_n 1, 1) := dk_27 (dk_at dksX11_isAt_0 21 rfl rfl)
theorem dX11_isAt_22 : decode cX11_isAt 22 = .ok (.i2l, 1) := dk_133 (dk_at dksX11_isAt_0 22 rfl rfl)
theorem dX11_isAt_23 : decode cX11_isAt 23 = .ok (.iload_n 2, 1) := dk_28 (dk_at dksX11_isAt_0 23 rfl rfl)
theorem dX11_isAt_24 : decode cX11_isAt 24 = .ok (.i2l, 1) := dk_133 (dk_at dksX11_isAt_1 0 rfl rfl)
theorem dX11_isAt_25 : decode cX11_isAt 25 = .ok (.invokestatic 50, 3) := dk_184 0 50 (dk_at dksX11_isAt_1 1 rfl rfl)
theorem dX11_isAt_28 : decode cX11_isAt 28 = .ok (.ifCond .eq 7, 3) := dk_153 0 7 (dk_at dksX11_isAt_1 4 rfl rfl)
theorem dX11_isAt_31 : decode cX11_isAt 31 = .ok (.iconst 1, 1) := dk_4 (dk_at dksX11_isAt_1 7 rfl rfl)
theorem dX11_isAt_32 : decode cX11_isAt 32 = .ok (.goto 4, 3) := dk_167 0 4 (dk_at dksX11_isAt_1 8 rfl rfl)
theorem dX11_isAt_35 : decode cX11_isAt 35 = .ok (.iconst 0, 1) := dk_3 (dk_at dksX11_isAt_1 11 rfl rfl)
theorem dX11_isAt_36 : decode cX11_isAt 36 = .ok (.ireturn, 1) := dk_172 (dk_at dksX11_isAt_1 12 rfl rfl)
abbrev cX11_reads : ByteArray := prog_9_method_16_code
def yX11_reads : MethodName := ⟨RX11, "reads", "()LWatchStack$Told;"⟩
def dkwX11_reads_4 : List UInt8 := [167, 255, 209, 42, 180, 0, 32, 176]
abbrev dktX11_reads_4 : List UInt8 := dkwX11_reads_4 ++ []
def dkwX11_reads_3 : List UInt8 := [192, 0, 147, 180, 0, 166, 154, 0, 13, 187, 0, 74, 89, 7, 27, 183, 0, 76, 191, 132, 1, 1]
abbrev dktX11_reads_3 : List UInt8 := dkwX11_reads_3 ++ dktX11_reads_4
def dkwX11_reads_2 : List UInt8 := [42, 180, 0, 32, 180, 0, 130, 182, 0, 134, 162, 0, 39, 42, 180, 0, 32, 180, 0, 130, 27, 182, 0, 162]
abbrev dktX11_reads_2 : List UInt8 := dkwX11_reads_2 ++ dktX11_reads_3
def dkwX11_reads_1 : List UInt8 := [191, 42, 182, 0, 44, 42, 180, 0, 32, 89, 180, 0, 196, 4, 96, 181, 0, 196, 167, 255, 214, 3, 60, 27]
abbrev dktX11_reads_1 : List UInt8 := dkwX11_reads_1 ++ dktX11_reads_2
def dkwX11_reads_0 : List UInt8 := [42, 180, 0, 64, 153, 0, 41, 42, 182, 0, 222, 42, 180, 0, 64, 6, 159, 0, 9, 42, 4, 182, 0, 91]
abbrev dktX11_reads_0 : List UInt8 := dkwX11_reads_0 ++ dktX11_reads_1
theorem dksX11_reads_0 : cX11_reads.data.toList.drop 0 = dktX11_reads_0 := by decide +kernel
theorem dksX11_reads_1 : cX11_reads.data.toList.drop 24 = dktX11_reads_1 := dk_seg dksX11_reads_0 24 rfl rfl
theorem dksX11_reads_2 : cX11_reads.data.toList.drop 48 = dktX11_reads_2 := dk_seg dksX11_reads_1 24 rfl rfl
theorem dksX11_reads_3 : cX11_reads.data.toList.drop 72 = dktX11_reads_3 := dk_seg dksX11_reads_2 24 rfl rfl
theorem dksX11_reads_4 : cX11_reads.data.toList.drop 94 = dktX11_reads_4 := dk_seg dksX11_reads_3 22 rfl rfl
theorem dX11_reads_0 : decode cX11_reads 0 = .ok (.aload_n 0, 1) := dk_42 (dk_at dksX11_reads_0 0 rfl rfl)
theorem dX11_reads_1 : decode cX11_reads 1 = .ok (.getfield 64, 3) := dk_180 0 64 (dk_at dksX11_reads_0 1 rfl rfl)
theorem dX11_reads_4 : decode cX11_reads 4 = .ok (.ifCond .eq 41, 3) := dk_153 0 41 (dk_at dksX11_reads_0 4 rfl rfl)
theorem dX11_reads_7 : decode cX11_reads 7 = .ok (.aload_n 0, 1) := dk_42 (dk_at dksX11_reads_0 7 rfl rfl)
theorem dX11_reads_8 : decode cX11_reads 8 = .ok (.invokevirtual 222, 3) := dk_182 0 222 (dk_at dksX11_reads_0 8 rfl rfl)
theorem dX11_reads_11 : decode cX11_reads 11 = .ok (.aload_n 0, 1) := dk_42 (dk_at dksX11_reads_0 11 rfl rfl)
theorem dX11_reads_12 : decode cX11_reads 12 = .ok (.getfield 64, 3) := dk_180 0 64 (dk_at dksX11_reads_0 12 rfl rfl)
theorem dX11_reads_15 : decode cX11_reads 15 = .ok (.iconst 3, 1) := dk_6 (dk_at dksX11_reads_0 15 rfl rfl)
theorem dX11_reads_16 : decode cX11_reads 16 = .ok (.if_icmp .eq 9, 3) := dk_159 0 9 (dk_at dksX11_reads_0 16 rfl rfl)
theorem dX11_reads_19 : decode cX11_reads 19 = .ok (.aload_n 0, 1) := dk_42 (dk_at dksX11_reads_0 19 rfl rfl)
theorem dX11_reads_20 : decode cX11_reads 20 = .ok (.iconst 1, 1) := dk_4 (dk_at dksX11_reads_0 20 rfl rfl)
theorem dX11_reads_21 : decode cX11_reads 21 = .ok (.invokevirtual 91, 3) := dk_182 0 91 (dk_at dksX11_reads_0 21 rfl rfl)
theorem dX11_reads_24 : decode cX11_reads 24 = .ok (.athrow, 1) := dk_191 (dk_at dksX11_reads_1 0 rfl rfl)
theorem dX11_reads_25 : decode cX11_reads 25 = .ok (.aload_n 0, 1) := dk_42 (dk_at dksX11_reads_1 1 rfl rfl)
theorem dX11_reads_26 : decode cX11_reads 26 = .ok (.invokevirtual 44, 3) := dk_182 0 44 (dk_at dksX11_reads_1 2 rfl rfl)
theorem dX11_reads_29 : decode cX11_reads 29 = .ok (.aload_n 0, 1) := dk_42 (dk_at dksX11_reads_1 5 rfl rfl)
theorem dX11_reads_30 : decode cX11_reads 30 = .ok (.getfield 32, 3) := dk_180 0 32 (dk_at dksX11_reads_1 6 rfl rfl)
theorem dX11_reads_33 : decode cX11_reads 33 = .ok (.dup, 1) := dk_89 (dk_at dksX11_reads_1 9 rfl rfl)
theorem dX11_reads_34 : decode cX11_reads 34 = .ok (.getfield 196, 3) := dk_180 0 196 (dk_at dksX11_reads_1 10 rfl rfl)
theorem dX11_reads_37 : decode cX11_reads 37 = .ok (.iconst 1, 1) := dk_4 (dk_at dksX11_reads_1 13 rfl rfl)
theorem dX11_reads_38 : decode cX11_reads 38 = .ok (.iadd, 1) := dk_96 (dk_at dksX11_reads_1 14 rfl rfl)
theorem dX11_reads_39 : decode cX11_reads 39 = .ok (.putfield 196, 3) := dk_181 0 196 (dk_at dksX11_reads_1 15 rfl rfl)
theorem dX11_reads_42 : decode cX11_reads 42 = .ok (.goto (-42), 3) := dk_167 255 214 (dk_at dksX11_reads_1 18 rfl rfl)
theorem dX11_reads_45 : decode cX11_reads 45 = .ok (.iconst 0, 1) := dk_3 (dk_at dksX11_reads_1 21 rfl rfl)
theorem dX11_reads_46 : decode cX11_reads 46 = .ok (.istore_n 1, 1) := dk_60 (dk_at dksX11_reads_1 22 rfl rfl)
theorem dX11_reads_47 : decode cX11_reads 47 = .ok (.iload_n 1, 1) := dk_27 (dk_at dksX11_reads_1 23 rfl rfl)
theorem dX11_reads_48 : decode cX11_reads 48 = .ok (.aload_n 0, 1) := dk_42 (dk_at dksX11_reads_2 0 rfl rfl)
theorem dX11_reads_49 : decode cX11_reads 49 = .ok (.getfield 32, 3) := dk_180 0 32 (dk_at dksX11_reads_2 1 rfl rfl)
theorem dX11_reads_52 : decode cX11_reads 52 = .ok (.getfield 130, 3) := dk_180 0 130 (dk_at dksX11_reads_2 4 rfl rfl)
theorem dX11_reads_55 : decode cX11_reads 55 = .ok (.invokevirtual 134, 3) := dk_182 0 134 (dk_at dksX11_reads_2 7 rfl rfl)
theorem dX11_reads_58 : decode cX11_reads 58 = .ok (.if_icmp .ge 39, 3) := dk_162 0 39 (dk_at dksX11_reads_2 10 rfl rfl)
theorem dX11_reads_61 : decode cX11_reads 61 = .ok (.aload_n 0, 1) := dk_42 (dk_at dksX11_reads_2 13 rfl rfl)
theorem dX11_reads_62 : decode cX11_reads 62 = .ok (.getfield 32, 3) := dk_180 0 32 (dk_at dksX11_reads_2 14 rfl rfl)
theorem dX11_reads_65 : decode cX11_reads 65 = .ok (.getfield 130, 3) := dk_180 0 130 (dk_at dksX11_reads_2 17 rfl rfl)
theorem dX11_reads_68 : decode cX11_reads 68 = .ok (.iload_n 1, 1) := dk_27 (dk_at dksX11_reads_2 20 rfl rfl)
theorem dX11_reads_69 : decode cX11_reads 69 = .ok (.invokevirtual 162, 3) := dk_182 0 162 (dk_at dksX11_reads_2 21 rfl rfl)
theorem dX11_reads_72 : decode cX11_reads 72 = .ok (.checkcast 147, 3) := dk_192 0 147 (dk_at dksX11_reads_3 0 rfl rfl)
theorem dX11_reads_75 : decode cX11_reads 75 = .ok (.getfield 166, 3) := dk_180 0 166 (dk_at dksX11_reads_3 3 rfl rfl)
theorem dX11_reads_78 : decode cX11_reads 78 = .ok (.ifCond .ne 13, 3) := dk_154 0 13 (dk_at dksX11_reads_3 6 rfl rfl)
theorem dX11_reads_81 : decode cX11_reads 81 = .ok (.new 74, 3) := dk_187 0 74 (dk_at dksX11_reads_3 9 rfl rfl)
theorem dX11_reads_84 : decode cX11_reads 84 = .ok (.dup, 1) := dk_89 (dk_at dksX11_reads_3 12 rfl rfl)
theorem dX11_reads_85 : decode cX11_reads 85 = .ok (.iconst 4, 1) := dk_7 (dk_at dksX11_reads_3 13 rfl rfl)
theorem dX11_reads_86 : decode cX11_reads 86 = .ok (.iload_n 1, 1) := dk_27 (dk_at dksX11_reads_3 14 rfl rfl)
theorem dX11_reads_87 : decode cX11_reads 87 = .ok (.invokespecial 76, 3) := dk_183 0 76 (dk_at dksX11_reads_3 15 rfl rfl)
theorem dX11_reads_90 : decode cX11_reads 90 = .ok (.athrow, 1) := dk_191 (dk_at dksX11_reads_3 18 rfl rfl)
theorem dX11_reads_91 : decode cX11_reads 91 = .ok (.iinc 1 1, 3) := dk_132 1 1 (dk_at dksX11_reads_3 19 rfl rfl)
theorem dX11_reads_94 : decode cX11_reads 94 = .ok (.goto (-47), 3) := dk_167 255 209 (dk_at dksX11_reads_4 0 rfl rfl)
theorem dX11_reads_97 : decode cX11_reads 97 = .ok (.aload_n 0, 1) := dk_42 (dk_at dksX11_reads_4 3 rfl rfl)
theorem dX11_reads_98 : decode cX11_reads 98 = .ok (.getfield 32, 3) := dk_180 0 32 (dk_at dksX11_reads_4 4 rfl rfl)
theorem dX11_reads_101 : decode cX11_reads 101 = .ok (.areturn, 1) := dk_176 (dk_at dksX11_reads_4 7 rfl rfl)
abbrev cX11_line : ByteArray := prog_9_method_15_code
def yX11_line : MethodName := ⟨RX11, "line", "()V"⟩
def dkwX11_line_3 : List UInt8 := [182, 0, 218, 177]
abbrev dktX11_line_3 : List UInt8 := dkwX11_line_3 ++ []
def dkwX11_line_2 : List UInt8 := [167, 0, 27, 42, 18, 192, 182, 0, 87, 153, 0, 10, 42, 182, 0, 212, 167, 0, 11, 42, 42, 182, 0, 215]
abbrev dktX11_line_2 : List UInt8 := dkwX11_line_2 ++ dktX11_line_3
def dkwX11_line_1 : List UInt8 := [153, 0, 10, 42, 182, 0, 204, 167, 0, 43, 42, 18, 207, 182, 0, 87, 153, 0, 10, 42, 182, 0, 209]
abbrev dktX11_line_1 : List UInt8 := dkwX11_line_1 ++ dktX11_line_2
def dkwX11_line_0 : List UInt8 := [42, 180, 0, 32, 180, 0, 196, 154, 0, 10, 42, 182, 0, 199, 167, 0, 59, 42, 18, 202, 182, 0, 87]
abbrev dktX11_line_0 : List UInt8 := dkwX11_line_0 ++ dktX11_line_1
theorem dksX11_line_0 : cX11_line.data.toList.drop 0 = dktX11_line_0 := by decide +kernel
theorem dksX11_line_1 : cX11_line.data.toList.drop 23 = dktX11_line_1 := dk_seg dksX11_line_0 23 rfl rfl
theorem dksX11_line_2 : cX11_line.data.toList.drop 46 = dktX11_line_2 := dk_seg dksX11_line_1 23 rfl rfl
theorem dksX11_line_3 : cX11_line.data.toList.drop 70 = dktX11_line_3 := dk_seg dksX11_line_2 24 rfl rfl
theorem dX11_line_0 : decode cX11_line 0 = .ok (.aload_n 0, 1) := dk_42 (dk_at dksX11_line_0 0 rfl rfl)
theorem dX11_line_1 : decode cX11_line 1 = .ok (.getfield 32, 3) := dk_180 0 32 (dk_at dksX11_line_0 1 rfl rfl)
theorem dX11_line_4 : decode cX11_line 4 = .ok (.getfield 196, 3) := dk_180 0 196 (dk_at dksX11_line_0 4 rfl rfl)
theorem dX11_line_7 : decode cX11_line 7 = .ok (.ifCond .ne 10, 3) := dk_154 0 10 (dk_at dksX11_line_0 7 rfl rfl)
theorem dX11_line_10 : decode cX11_line 10 = .ok (.aload_n 0, 1) := dk_42 (dk_at dksX11_line_0 10 rfl rfl)
theorem dX11_line_11 : decode cX11_line 11 = .ok (.invokevirtual 199, 3) := dk_182 0 199 (dk_at dksX11_line_0 11 rfl rfl)
theorem dX11_line_14 : decode cX11_line 14 = .ok (.goto 59, 3) := dk_167 0 59 (dk_at dksX11_line_0 14 rfl rfl)
theorem dX11_line_17 : decode cX11_line 17 = .ok (.aload_n 0, 1) := dk_42 (dk_at dksX11_line_0 17 rfl rfl)
theorem dX11_line_18 : decode cX11_line 18 = .ok (.ldc 202, 2) := dk_18 202 (dk_at dksX11_line_0 18 rfl rfl)
theorem dX11_line_20 : decode cX11_line 20 = .ok (.invokevirtual 87, 3) := dk_182 0 87 (dk_at dksX11_line_0 20 rfl rfl)
theorem dX11_line_23 : decode cX11_line 23 = .ok (.ifCond .eq 10, 3) := dk_153 0 10 (dk_at dksX11_line_1 0 rfl rfl)
theorem dX11_line_26 : decode cX11_line 26 = .ok (.aload_n 0, 1) := dk_42 (dk_at dksX11_line_1 3 rfl rfl)
theorem dX11_line_27 : decode cX11_line 27 = .ok (.invokevirtual 204, 3) := dk_182 0 204 (dk_at dksX11_line_1 4 rfl rfl)
theorem dX11_line_30 : decode cX11_line 30 = .ok (.goto 43, 3) := dk_167 0 43 (dk_at dksX11_line_1 7 rfl rfl)
theorem dX11_line_33 : decode cX11_line 33 = .ok (.aload_n 0, 1) := dk_42 (dk_at dksX11_line_1 10 rfl rfl)
theorem dX11_line_34 : decode cX11_line 34 = .ok (.ldc 207, 2) := dk_18 207 (dk_at dksX11_line_1 11 rfl rfl)
theorem dX11_line_36 : decode cX11_line 36 = .ok (.invokevirtual 87, 3) := dk_182 0 87 (dk_at dksX11_line_1 13 rfl rfl)
theorem dX11_line_39 : decode cX11_line 39 = .ok (.ifCond .eq 10, 3) := dk_153 0 10 (dk_at dksX11_line_1 16 rfl rfl)
theorem dX11_line_42 : decode cX11_line 42 = .ok (.aload_n 0, 1) := dk_42 (dk_at dksX11_line_1 19 rfl rfl)
theorem dX11_line_43 : decode cX11_line 43 = .ok (.invokevirtual 209, 3) := dk_182 0 209 (dk_at dksX11_line_1 20 rfl rfl)
theorem dX11_line_46 : decode cX11_line 46 = .ok (.goto 27, 3) := dk_167 0 27 (dk_at dksX11_line_2 0 rfl rfl)
theorem dX11_line_49 : decode cX11_line 49 = .ok (.aload_n 0, 1) := dk_42 (dk_at dksX11_line_2 3 rfl rfl)
theorem dX11_line_50 : decode cX11_line 50 = .ok (.ldc 192, 2) := dk_18 192 (dk_at dksX11_line_2 4 rfl rfl)
theorem dX11_line_52 : decode cX11_line 52 = .ok (.invokevirtual 87, 3) := dk_182 0 87 (dk_at dksX11_line_2 6 rfl rfl)
theorem dX11_line_55 : decode cX11_line 55 = .ok (.ifCond .eq 10, 3) := dk_153 0 10 (dk_at dksX11_line_2 9 rfl rfl)
theorem dX11_line_58 : decode cX11_line 58 = .ok (.aload_n 0, 1) := dk_42 (dk_at dksX11_line_2 12 rfl rfl)
theorem dX11_line_59 : decode cX11_line 59 = .ok (.invokevirtual 212, 3) := dk_182 0 212 (dk_at dksX11_line_2 13 rfl rfl)
theorem dX11_line_62 : decode cX11_line 62 = .ok (.goto 11, 3) := dk_167 0 11 (dk_at dksX11_line_2 16 rfl rfl)
theorem dX11_line_65 : decode cX11_line 65 = .ok (.aload_n 0, 1) := dk_42 (dk_at dksX11_line_2 19 rfl rfl)
theorem dX11_line_66 : decode cX11_line 66 = .ok (.aload_n 0, 1) := dk_42 (dk_at dksX11_line_2 20 rfl rfl)
theorem dX11_line_67 : decode cX11_line 67 = .ok (.invokevirtual 215, 3) := dk_182 0 215 (dk_at dksX11_line_2 21 rfl rfl)
theorem dX11_line_70 : decode cX11_line 70 = .ok (.invokevirtual 218, 3) := dk_182 0 218 (dk_at dksX11_line_3 0 rfl rfl)
theorem dX11_line_73 : decode cX11_line 73 = .ok (.return_, 1) := dk_177 (dk_at dksX11_line_3 3 rfl rfl)
abbrev cX11_boardLine : ByteArray := prog_9_method_9_code
def yX11_boardLine : MethodName := ⟨RX11, "boardLine", "()V"⟩
def dkwX11_boardLine_2 : List UInt8 := [16, 9, 182, 0, 106, 181, 0, 117, 177]
abbrev dktX11_boardLine_2 : List UInt8 := dkwX11_boardLine_2 ++ []
def dkwX11_boardLine_1 : List UInt8 := [42, 180, 0, 32, 42, 18, 111, 8, 16, 50, 182, 0, 106, 181, 0, 113, 42, 180, 0, 32, 42, 18, 115, 3]
abbrev dktX11_boardLine_1 : List UInt8 := dkwX11_boardLine_1 ++ dktX11_boardLine_2
def dkwX11_boardLine_0 : List UInt8 := [42, 18, 102, 182, 0, 95, 42, 180, 0, 32, 42, 18, 104, 16, 20, 17, 0, 200, 182, 0, 106, 181, 0, 109]
abbrev dktX11_boardLine_0 : List UInt8 := dkwX11_boardLine_0 ++ dktX11_boardLine_1
theorem dksX11_boardLine_0 : cX11_boardLine.data.toList.drop 0 = dktX11_boardLine_0 := by decide +kernel
theorem dksX11_boardLine_1 : cX11_boardLine.data.toList.drop 24 = dktX11_boardLine_1 := dk_seg dksX11_boardLine_0 24 rfl rfl
theorem dksX11_boardLine_2 : cX11_boardLine.data.toList.drop 48 = dktX11_boardLine_2 := dk_seg dksX11_boardLine_1 24 rfl rfl
theorem dX11_boardLine_0 : decode cX11_boardLine 0 = .ok (.aload_n 0, 1) := dk_42 (dk_at dksX11_boardLine_0 0 rfl rfl)
theorem dX11_boardLine_1 : decode cX11_boardLine 1 = .ok (.ldc 102, 2) := dk_18 102 (dk_at dksX11_boardLine_0 1 rfl rfl)
theorem dX11_boardLine_3 : decode cX11_boardLine 3 = .ok (.invokevirtual 95, 3) := dk_182 0 95 (dk_at dksX11_boardLine_0 3 rfl rfl)
theorem dX11_boardLine_6 : decode cX11_boardLine 6 = .ok (.aload_n 0, 1) := dk_42 (dk_at dksX11_boardLine_0 6 rfl rfl)
theorem dX11_boardLine_7 : decode cX11_boardLine 7 = .ok (.getfield 32, 3) := dk_180 0 32 (dk_at dksX11_boardLine_0 7 rfl rfl)
theorem dX11_boardLine_10 : decode cX11_boardLine 10 = .ok (.aload_n 0, 1) := dk_42 (dk_at dksX11_boardLine_0 10 rfl rfl)
theorem dX11_boardLine_11 : decode cX11_boardLine 11 = .ok (.ldc 104, 2) := dk_18 104 (dk_at dksX11_boardLine_0 11 rfl rfl)
theorem dX11_boardLine_13 : decode cX11_boardLine 13 = .ok (.bipush 20, 2) := dk_16 20 (dk_at dksX11_boardLine_0 13 rfl rfl)
theorem dX11_boardLine_15 : decode cX11_boardLine 15 = .ok (.sipush 200, 3) := dk_17 0 200 (dk_at dksX11_boardLine_0 15 rfl rfl)
theorem dX11_boardLine_18 : decode cX11_boardLine 18 = .ok (.invokevirtual 106, 3) := dk_182 0 106 (dk_at dksX11_boardLine_0 18 rfl rfl)
theorem dX11_boardLine_21 : decode cX11_boardLine 21 = .ok (.putfield 109, 3) := dk_181 0 109 (dk_at dksX11_boardLine_0 21 rfl rfl)
theorem dX11_boardLine_24 : decode cX11_boardLine 24 = .ok (.aload_n 0, 1) := dk_42 (dk_at dksX11_boardLine_1 0 rfl rfl)
theorem dX11_boardLine_25 : decode cX11_boardLine 25 = .ok (.getfield 32, 3) := dk_180 0 32 (dk_at dksX11_boardLine_1 1 rfl rfl)
theorem dX11_boardLine_28 : decode cX11_boardLine 28 = .ok (.aload_n 0, 1) := dk_42 (dk_at dksX11_boardLine_1 4 rfl rfl)
theorem dX11_boardLine_29 : decode cX11_boardLine 29 = .ok (.ldc 111, 2) := dk_18 111 (dk_at dksX11_boardLine_1 5 rfl rfl)
theorem dX11_boardLine_31 : decode cX11_boardLine 31 = .ok (.iconst 5, 1) := dk_8 (dk_at dksX11_boardLine_1 7 rfl rfl)
theorem dX11_boardLine_32 : decode cX11_boardLine 32 = .ok (.bipush 50, 2) := dk_16 50 (dk_at dksX11_boardLine_1 8 rfl rfl)
theorem dX11_boardLine_34 : decode cX11_boardLine 34 = .ok (.invokevirtual 106, 3) := dk_182 0 106 (dk_at dksX11_boardLine_1 10 rfl rfl)
theorem dX11_boardLine_37 : decode cX11_boardLine 37 = .ok (.putfield 113, 3) := dk_181 0 113 (dk_at dksX11_boardLine_1 13 rfl rfl)
theorem dX11_boardLine_40 : decode cX11_boardLine 40 = .ok (.aload_n 0, 1) := dk_42 (dk_at dksX11_boardLine_1 16 rfl rfl)
theorem dX11_boardLine_41 : decode cX11_boardLine 41 = .ok (.getfield 32, 3) := dk_180 0 32 (dk_at dksX11_boardLine_1 17 rfl rfl)
theorem dX11_boardLine_44 : decode cX11_boardLine 44 = .ok (.aload_n 0, 1) := dk_42 (dk_at dksX11_boardLine_1 20 rfl rfl)
theorem dX11_boardLine_45 : decode cX11_boardLine 45 = .ok (.ldc 115, 2) := dk_18 115 (dk_at dksX11_boardLine_1 21 rfl rfl)
theorem dX11_boardLine_47 : decode cX11_boardLine 47 = .ok (.iconst 0, 1) := dk_3 (dk_at dksX11_boardLine_1 23 rfl rfl)
theorem dX11_boardLine_48 : decode cX11_boardLine 48 = .ok (.bipush 9, 2) := dk_16 9 (dk_at dksX11_boardLine_2 0 rfl rfl)
theorem dX11_boardLine_50 : decode cX11_boardLine 50 = .ok (.invokevirtual 106, 3) := dk_182 0 106 (dk_at dksX11_boardLine_2 2 rfl rfl)
theorem dX11_boardLine_53 : decode cX11_boardLine 53 = .ok (.putfield 117, 3) := dk_181 0 117 (dk_at dksX11_boardLine_2 5 rfl rfl)
theorem dX11_boardLine_56 : decode cX11_boardLine 56 = .ok (.return_, 1) := dk_177 (dk_at dksX11_boardLine_2 8 rfl rfl)
abbrev cX11_needs : ByteArray := prog_9_method_6_code
def yX11_needs : MethodName := ⟨RX11, "needs", "(Ljava/lang/String;)V"⟩
def dkwX11_needs_0 : List UInt8 := [42, 43, 182, 0, 87, 154, 0, 9, 42, 4, 182, 0, 91, 191, 42, 182, 0, 44, 177]
abbrev dktX11_needs_0 : List UInt8 := dkwX11_needs_0 ++ []
theorem dksX11_needs_0 : cX11_needs.data.toList.drop 0 = dktX11_needs_0 := by decide +kernel
theorem dX11_needs_0 : decode cX11_needs 0 = .ok (.aload_n 0, 1) := dk_42 (dk_at dksX11_needs_0 0 rfl rfl)
theorem dX11_needs_1 : decode cX11_needs 1 = .ok (.aload_n 1, 1) := dk_43 (dk_at dksX11_needs_0 1 rfl rfl)
theorem dX11_needs_2 : decode cX11_needs 2 = .ok (.invokevirtual 87, 3) := dk_182 0 87 (dk_at dksX11_needs_0 2 rfl rfl)
theorem dX11_needs_5 : decode cX11_needs 5 = .ok (.ifCond .ne 9, 3) := dk_154 0 9 (dk_at dksX11_needs_0 5 rfl rfl)
theorem dX11_needs_8 : decode cX11_needs 8 = .ok (.aload_n 0, 1) := dk_42 (dk_at dksX11_needs_0 8 rfl rfl)
theorem dX11_needs_9 : decode cX11_needs 9 = .ok (.iconst 1, 1) := dk_4 (dk_at dksX11_needs_0 9 rfl rfl)
theorem dX11_needs_10 : decode cX11_needs 10 = .ok (.invokevirtual 91, 3) := dk_182 0 91 (dk_at dksX11_needs_0 10 rfl rfl)
theorem dX11_needs_13 : decode cX11_needs 13 = .ok (.athrow, 1) := dk_191 (dk_at dksX11_needs_0 13 rfl rfl)
theorem dX11_needs_14 : decode cX11_needs 14 = .ok (.aload_n 0, 1) := dk_42 (dk_at dksX11_needs_0 14 rfl rfl)
theorem dX11_needs_15 : decode cX11_needs 15 = .ok (.invokevirtual 44, 3) := dk_182 0 44 (dk_at dksX11_needs_0 15 rfl rfl)
theorem dX11_needs_18 : decode cX11_needs 18 = .ok (.return_, 1) := dk_177 (dk_at dksX11_needs_0 18 rfl rfl)
abbrev cX11_is : ByteArray := prog_9_method_5_code
def yX11_is : MethodName := ⟨RX11, "is", "(Ljava/lang/String;)Z"⟩
def dkwX11_is_2 : List UInt8 := [28, 182, 0, 83, 159, 0, 5, 3, 172, 132, 2, 1, 167, 255, 224, 4, 172]
abbrev dktX11_is_2 : List UInt8 := dkwX11_is_2 ++ []
def dkwX11_is_1 : List UInt8 := [3, 172, 3, 61, 28, 43, 182, 0, 79, 162, 0, 30, 42, 180, 0, 36, 42, 180, 0, 58, 28, 96, 51, 43]
abbrev dktX11_is_1 : List UInt8 := dkwX11_is_1 ++ dktX11_is_2
def dkwX11_is_0 : List UInt8 := [42, 180, 0, 64, 4, 160, 0, 19, 42, 180, 0, 47, 42, 180, 0, 58, 100, 43, 182, 0, 79, 159, 0, 5]
abbrev dktX11_is_0 : List UInt8 := dkwX11_is_0 ++ dktX11_is_1
theorem dksX11_is_0 : cX11_is.data.toList.drop 0 = dktX11_is_0 := by decide +kernel
theorem dksX11_is_1 : cX11_is.data.toList.drop 24 = dktX11_is_1 := dk_seg dksX11_is_0 24 rfl rfl
theorem dksX11_is_2 : cX11_is.data.toList.drop 48 = dktX11_is_2 := dk_seg dksX11_is_1 24 rfl rfl
theorem dX11_is_0 : decode cX11_is 0 = .ok (.aload_n 0, 1) := dk_42 (dk_at dksX11_is_0 0 rfl rfl)
theorem dX11_is_1 : decode cX11_is 1 = .ok (.getfield 64, 3) := dk_180 0 64 (dk_at dksX11_is_0 1 rfl rfl)
theorem dX11_is_4 : decode cX11_is 4 = .ok (.iconst 1, 1) := dk_4 (dk_at dksX11_is_0 4 rfl rfl)
theorem dX11_is_5 : decode cX11_is 5 = .ok (.if_icmp .ne 19, 3) := dk_160 0 19 (dk_at dksX11_is_0 5 rfl rfl)
theorem dX11_is_8 : decode cX11_is 8 = .ok (.aload_n 0, 1) := dk_42 (dk_at dksX11_is_0 8 rfl rfl)
theorem dX11_is_9 : decode cX11_is 9 = .ok (.getfield 47, 3) := dk_180 0 47 (dk_at dksX11_is_0 9 rfl rfl)
theorem dX11_is_12 : decode cX11_is 12 = .ok (.aload_n 0, 1) := dk_42 (dk_at dksX11_is_0 12 rfl rfl)
theorem dX11_is_13 : decode cX11_is 13 = .ok (.getfield 58, 3) := dk_180 0 58 (dk_at dksX11_is_0 13 rfl rfl)
theorem dX11_is_16 : decode cX11_is 16 = .ok (.isub, 1) := dk_100 (dk_at dksX11_is_0 16 rfl rfl)
theorem dX11_is_17 : decode cX11_is 17 = .ok (.aload_n 1, 1) := dk_43 (dk_at dksX11_is_0 17 rfl rfl)
theorem dX11_is_18 : decode cX11_is 18 = .ok (.invokevirtual 79, 3) := dk_182 0 79 (dk_at dksX11_is_0 18 rfl rfl)
theorem dX11_is_21 : decode cX11_is 21 = .ok (.if_icmp .eq 5, 3) := dk_159 0 5 (dk_at dksX11_is_0 21 rfl rfl)
theorem dX11_is_24 : decode cX11_is 24 = .ok (.iconst 0, 1) := dk_3 (dk_at dksX11_is_1 0 rfl rfl)
theorem dX11_is_25 : decode cX11_is 25 = .ok (.ireturn, 1) := dk_172 (dk_at dksX11_is_1 1 rfl rfl)
theorem dX11_is_26 : decode cX11_is 26 = .ok (.iconst 0, 1) := dk_3 (dk_at dksX11_is_1 2 rfl rfl)
theorem dX11_is_27 : decode cX11_is 27 = .ok (.istore_n 2, 1) := dk_61 (dk_at dksX11_is_1 3 rfl rfl)
theorem dX11_is_28 : decode cX11_is 28 = .ok (.iload_n 2, 1) := dk_28 (dk_at dksX11_is_1 4 rfl rfl)
theorem dX11_is_29 : decode cX11_is 29 = .ok (.aload_n 1, 1) := dk_43 (dk_at dksX11_is_1 5 rfl rfl)
theorem dX11_is_30 : decode cX11_is 30 = .ok (.invokevirtual 79, 3) := dk_182 0 79 (dk_at dksX11_is_1 6 rfl rfl)
theorem dX11_is_33 : decode cX11_is 33 = .ok (.if_icmp .ge 30, 3) := dk_162 0 30 (dk_at dksX11_is_1 9 rfl rfl)
theorem dX11_is_36 : decode cX11_is 36 = .ok (.aload_n 0, 1) := dk_42 (dk_at dksX11_is_1 12 rfl rfl)
theorem dX11_is_37 : decode cX11_is 37 = .ok (.getfield 36, 3) := dk_180 0 36 (dk_at dksX11_is_1 13 rfl rfl)
theorem dX11_is_40 : decode cX11_is 40 = .ok (.aload_n 0, 1) := dk_42 (dk_at dksX11_is_1 16 rfl rfl)
theorem dX11_is_41 : decode cX11_is 41 = .ok (.getfield 58, 3) := dk_180 0 58 (dk_at dksX11_is_1 17 rfl rfl)
theorem dX11_is_44 : decode cX11_is 44 = .ok (.iload_n 2, 1) := dk_28 (dk_at dksX11_is_1 20 rfl rfl)
theorem dX11_is_45 : decode cX11_is 45 = .ok (.iadd, 1) := dk_96 (dk_at dksX11_is_1 21 rfl rfl)
theorem dX11_is_46 : decode cX11_is 46 = .ok (.baload, 1) := dk_51 (dk_at dksX11_is_1 22 rfl rfl)
theorem dX11_is_47 : decode cX11_is 47 = .ok (.aload_n 1, 1) := dk_43 (dk_at dksX11_is_1 23 rfl rfl)
theorem dX11_is_48 : decode cX11_is 48 = .ok (.iload_n 2, 1) := dk_28 (dk_at dksX11_is_2 0 rfl rfl)
theorem dX11_is_49 : decode cX11_is 49 = .ok (.invokevirtual 83, 3) := dk_182 0 83 (dk_at dksX11_is_2 1 rfl rfl)
theorem dX11_is_52 : decode cX11_is 52 = .ok (.if_icmp .eq 5, 3) := dk_159 0 5 (dk_at dksX11_is_2 4 rfl rfl)
theorem dX11_is_55 : decode cX11_is 55 = .ok (.iconst 0, 1) := dk_3 (dk_at dksX11_is_2 7 rfl rfl)
theorem dX11_is_56 : decode cX11_is 56 = .ok (.ireturn, 1) := dk_172 (dk_at dksX11_is_2 8 rfl rfl)
theorem dX11_is_57 : decode cX11_is 57 = .ok (.iinc 2 1, 3) := dk_132 2 1 (dk_at dksX11_is_2 9 rfl rfl)
theorem dX11_is_60 : decode cX11_is 60 = .ok (.goto (-32), 3) := dk_167 255 224 (dk_at dksX11_is_2 12 rfl rfl)
theorem dX11_is_63 : decode cX11_is 63 = .ok (.iconst 1, 1) := dk_4 (dk_at dksX11_is_2 15 rfl rfl)
theorem dX11_is_64 : decode cX11_is 64 = .ok (.ireturn, 1) := dk_172 (dk_at dksX11_is_2 16 rfl rfl)
abbrev cX11_fault : ByteArray := prog_9_method_4_code
def yX11_fault : MethodName := ⟨RX11, "fault", "(I)LWatchStack$Fault;"⟩
def dkwX11_fault_0 : List UInt8 := [187, 0, 74, 89, 27, 42, 180, 0, 58, 183, 0, 76, 176]
abbrev dktX11_fault_0 : List UInt8 := dkwX11_fault_0 ++ []
theorem dksX11_fault_0 : cX11_fault.data.toList.drop 0 = dktX11_fault_0 := by decide +kernel
theorem dX11_fault_0 : decode cX11_fault 0 = .ok (.new 74, 3) := dk_187 0 74 (dk_at dksX11_fault_0 0 rfl rfl)
theorem dX11_fault_3 : decode cX11_fault 3 = .ok (.dup, 1) := dk_89 (dk_at dksX11_fault_0 3 rfl rfl)
theorem dX11_fault_4 : decode cX11_fault 4 = .ok (.iload_n 1, 1) := dk_27 (dk_at dksX11_fault_0 4 rfl rfl)
theorem dX11_fault_5 : decode cX11_fault 5 = .ok (.aload_n 0, 1) := dk_42 (dk_at dksX11_fault_0 5 rfl rfl)
theorem dX11_fault_6 : decode cX11_fault 6 = .ok (.getfield 58, 3) := dk_180 0 58 (dk_at dksX11_fault_0 6 rfl rfl)
theorem dX11_fault_9 : decode cX11_fault 9 = .ok (.invokespecial 76, 3) := dk_183 0 76 (dk_at dksX11_fault_0 9 rfl rfl)
theorem dX11_fault_12 : decode cX11_fault 12 = .ok (.areturn, 1) := dk_176 (dk_at dksX11_fault_0 12 rfl rfl)
abbrev cX11_number : ByteArray := prog_9_method_8_code
def yX11_number : MethodName := ⟨RX11, "number", "(Ljava/lang/String;II)I"⟩
def dkwX11_number_0 : List UInt8 := [42, 43, 182, 0, 95, 42, 28, 29, 182, 0, 99, 172]
abbrev dktX11_number_0 : List UInt8 := dkwX11_number_0 ++ []
theorem dksX11_number_0 : cX11_number.data.toList.drop 0 = dktX11_number_0 := by decide +kernel
theorem dX11_number_0 : decode cX11_number 0 = .ok (.aload_n 0, 1) := dk_42 (dk_at dksX11_number_0 0 rfl rfl)
theorem dX11_number_1 : decode cX11_number 1 = .ok (.aload_n 1, 1) := dk_43 (dk_at dksX11_number_0 1 rfl rfl)
theorem dX11_number_2 : decode cX11_number 2 = .ok (.invokevirtual 95, 3) := dk_182 0 95 (dk_at dksX11_number_0 2 rfl rfl)
theorem dX11_number_5 : decode cX11_number 5 = .ok (.aload_n 0, 1) := dk_42 (dk_at dksX11_number_0 5 rfl rfl)
theorem dX11_number_6 : decode cX11_number 6 = .ok (.iload_n 2, 1) := dk_28 (dk_at dksX11_number_0 6 rfl rfl)
theorem dX11_number_7 : decode cX11_number 7 = .ok (.iload_n 3, 1) := dk_29 (dk_at dksX11_number_0 7 rfl rfl)
theorem dX11_number_8 : decode cX11_number 8 = .ok (.invokevirtual 99, 3) := dk_182 0 99 (dk_at dksX11_number_0 8 rfl rfl)
theorem dX11_number_11 : decode cX11_number 11 = .ok (.ireturn, 1) := dk_172 (dk_at dksX11_number_0 11 rfl rfl)
abbrev cX11_number_2 : ByteArray := prog_9_method_7_code
def yX11_number_2 : MethodName := ⟨RX11, "number", "(II)I"⟩
def dkwX11_number_2_1 : List UInt8 := [184, 0, 50, 154, 0, 9, 42, 5, 182, 0, 91, 191, 42, 180, 0, 61, 62, 42, 182, 0, 44, 29, 172]
abbrev dktX11_number_2_1 : List UInt8 := dkwX11_number_2_1 ++ []
def dkwX11_number_2_0 : List UInt8 := [42, 180, 0, 64, 5, 159, 0, 9, 42, 4, 182, 0, 91, 191, 42, 180, 0, 61, 133, 27, 133, 28, 133]
abbrev dktX11_number_2_0 : List UInt8 := dkwX11_number_2_0 ++ dktX11_number_2_1
theorem dksX11_number_2_0 : cX11_number_2.data.toList.drop 0 = dktX11_number_2_0 := by decide +kernel
theorem dksX11_number_2_1 : cX11_number_2.data.toList.drop 23 = dktX11_number_2_1 := dk_seg dksX11_number_2_0 23 rfl rfl
theorem dX11_number_2_0 : decode cX11_number_2 0 = .ok (.aload_n 0, 1) := dk_42 (dk_at dksX11_number_2_0 0 rfl rfl)
theorem dX11_number_2_1 : decode cX11_number_2 1 = .ok (.getfield 64, 3) := dk_180 0 64 (dk_at dksX11_number_2_0 1 rfl rfl)
theorem dX11_number_2_4 : decode cX11_number_2 4 = .ok (.iconst 2, 1) := dk_5 (dk_at dksX11_number_2_0 4 rfl rfl)
theorem dX11_number_2_5 : decode cX11_number_2 5 = .ok (.if_icmp .eq 9, 3) := dk_159 0 9 (dk_at dksX11_number_2_0 5 rfl rfl)
theorem dX11_number_2_8 : decode cX11_number_2 8 = .ok (.aload_n 0, 1) := dk_42 (dk_at dksX11_number_2_0 8 rfl rfl)
theorem dX11_number_2_9 : decode cX11_number_2 9 = .ok (.iconst 1, 1) := dk_4 (dk_at dksX11_number_2_0 9 rfl rfl)
theorem dX11_number_2_10 : decode cX11_number_2 10 = .ok (.invokevirtual 91, 3) := dk_182 0 91 (dk_at dksX11_number_2_0 10 rfl rfl)
theorem dX11_number_2_13 : decode cX11_number_2 13 = .ok (.athrow, 1) := dk_191 (dk_at dksX11_number_2_0 13 rfl rfl)
theorem dX11_number_2_14 : decode cX11_number_2 14 = .ok (.aload_n 0, 1) := dk_42 (dk_at dksX11_number_2_0 14 rfl rfl)
theorem dX11_number_2_15 : decode cX11_number_2 15 = .ok (.getfield 61, 3) := dk_180 0 61 (dk_at dksX11_number_2_0 15 rfl rfl)
theorem dX11_number_2_18 : decode cX11_number_2 18 = .ok (.i2l, 1) := dk_133 (dk_at dksX11_number_2_0 18 rfl rfl)
theorem dX11_number_2_19 : decode cX11_number_2 19 = .ok (.iload_n 1, 1) := dk_27 (dk_at dksX11_number_2_0 19 rfl rfl)
theorem dX11_number_2_20 : decode cX11_number_2 20 = .ok (.i2l, 1) := dk_133 (dk_at dksX11_number_2_0 20 rfl rfl)
theorem dX11_number_2_21 : decode cX11_number_2 21 = .ok (.iload_n 2, 1) := dk_28 (dk_at dksX11_number_2_0 21 rfl rfl)
theorem dX11_number_2_22 : decode cX11_number_2 22 = .ok (.i2l, 1) := dk_133 (dk_at dksX11_number_2_0 22 rfl rfl)
theorem dX11_number_2_23 : decode cX11_number_2 23 = .ok (.invokestatic 50, 3) := dk_184 0 50 (dk_at dksX11_number_2_1 0 rfl rfl)
theorem dX11_number_2_26 : decode cX11_number_2 26 = .ok (.ifCond .ne 9, 3) := dk_154 0 9 (dk_at dksX11_number_2_1 3 rfl rfl)
theorem dX11_number_2_29 : decode cX11_number_2 29 = .ok (.aload_n 0, 1) := dk_42 (dk_at dksX11_number_2_1 6 rfl rfl)
theorem dX11_number_2_30 : decode cX11_number_2 30 = .ok (.iconst 2, 1) := dk_5 (dk_at dksX11_number_2_1 7 rfl rfl)
theorem dX11_number_2_31 : decode cX11_number_2 31 = .ok (.invokevirtual 91, 3) := dk_182 0 91 (dk_at dksX11_number_2_1 8 rfl rfl)
theorem dX11_number_2_34 : decode cX11_number_2 34 = .ok (.athrow, 1) := dk_191 (dk_at dksX11_number_2_1 11 rfl rfl)
theorem dX11_number_2_35 : decode cX11_number_2 35 = .ok (.aload_n 0, 1) := dk_42 (dk_at dksX11_number_2_1 12 rfl rfl)
theorem dX11_number_2_36 : decode cX11_number_2 36 = .ok (.getfield 61, 3) := dk_180 0 61 (dk_at dksX11_number_2_1 13 rfl rfl)
theorem dX11_number_2_39 : decode cX11_number_2 39 = .ok (.istore_n 3, 1) := dk_62 (dk_at dksX11_number_2_1 16 rfl rfl)
theorem dX11_number_2_40 : decode cX11_number_2 40 = .ok (.aload_n 0, 1) := dk_42 (dk_at dksX11_number_2_1 17 rfl rfl)
theorem dX11_number_2_41 : decode cX11_number_2 41 = .ok (.invokevirtual 44, 3) := dk_182 0 44 (dk_at dksX11_number_2_1 18 rfl rfl)
theorem dX11_number_2_44 : decode cX11_number_2 44 = .ok (.iload_n 3, 1) := dk_29 (dk_at dksX11_number_2_1 21 rfl rfl)
theorem dX11_number_2_45 : decode cX11_number_2 45 = .ok (.ireturn, 1) := dk_172 (dk_at dksX11_number_2_1 22 rfl rfl)
abbrev cX11_watcherLine : ByteArray := prog_9_method_10_code
def yX11_watcherLine : MethodName := ⟨RX11, "watcherLine", "()V"⟩
def dkwX11_watcherLine_4 : List UInt8 := [181, 0, 119, 177]
abbrev dktX11_watcherLine_4 : List UInt8 := dkwX11_watcherLine_4 ++ []
def dkwX11_watcherLine_3 : List UInt8 := [42, 180, 0, 32, 180, 0, 119, 4, 100, 182, 0, 106, 79, 42, 180, 0, 32, 89, 180, 0, 119, 4, 96]
abbrev dktX11_watcherLine_3 : List UInt8 := dkwX11_watcherLine_3 ++ dktX11_watcherLine_4
def dkwX11_watcherLine_2 : List UInt8 := [180, 0, 32, 180, 0, 119, 42, 180, 0, 32, 180, 0, 119, 154, 0, 7, 2, 167, 0, 19, 42, 18, 128, 3]
abbrev dktX11_watcherLine_2 : List UInt8 := dkwX11_watcherLine_2 ++ dktX11_watcherLine_3
def dkwX11_watcherLine_1 : List UInt8 := [180, 0, 32, 180, 0, 119, 154, 0, 9, 42, 18, 122, 182, 0, 95, 42, 180, 0, 32, 180, 0, 124, 42]
abbrev dktX11_watcherLine_1 : List UInt8 := dkwX11_watcherLine_1 ++ dktX11_watcherLine_2
def dkwX11_watcherLine_0 : List UInt8 := [42, 180, 0, 32, 180, 0, 119, 6, 160, 0, 9, 42, 6, 182, 0, 91, 191, 42, 182, 0, 44, 42]
abbrev dktX11_watcherLine_0 : List UInt8 := dkwX11_watcherLine_0 ++ dktX11_watcherLine_1
theorem dksX11_watcherLine_0 : cX11_watcherLine.data.toList.drop 0 = dktX11_watcherLine_0 := by decide +kernel
theorem dksX11_watcherLine_1 : cX11_watcherLine.data.toList.drop 22 = dktX11_watcherLine_1 := dk_seg dksX11_watcherLine_0 22 rfl rfl
theorem dksX11_watcherLine_2 : cX11_watcherLine.data.toList.drop 45 = dktX11_watcherLine_2 := dk_seg dksX11_watcherLine_1 23 rfl rfl
theorem dksX11_watcherLine_3 : cX11_watcherLine.data.toList.drop 69 = dktX11_watcherLine_3 := dk_seg dksX11_watcherLine_2 24 rfl rfl
theorem dksX11_watcherLine_4 : cX11_watcherLine.data.toList.drop 92 = dktX11_watcherLine_4 := dk_seg dksX11_watcherLine_3 23 rfl rfl
theorem dX11_watcherLine_0 : decode cX11_watcherLine 0 = .ok (.aload_n 0, 1) := dk_42 (dk_at dksX11_watcherLine_0 0 rfl rfl)
theorem dX11_watcherLine_1 : decode cX11_watcherLine 1 = .ok (.getfield 32, 3) := dk_180 0 32 (dk_at dksX11_watcherLine_0 1 rfl rfl)
theorem dX11_watcherLine_4 : decode cX11_watcherLine 4 = .ok (.getfield 119, 3) := dk_180 0 119 (dk_at dksX11_watcherLine_0 4 rfl rfl)
theorem dX11_watcherLine_7 : decode cX11_watcherLine 7 = .ok (.iconst 3, 1) := dk_6 (dk_at dksX11_watcherLine_0 7 rfl rfl)
theorem dX11_watcherLine_8 : decode cX11_watcherLine 8 = .ok (.if_icmp .ne 9, 3) := dk_160 0 9 (dk_at dksX11_watcherLine_0 8 rfl rfl)
theorem dX11_watcherLine_11 : decode cX11_watcherLine 11 = .ok (.aload_n 0, 1) := dk_42 (dk_at dksX11_watcherLine_0 11 rfl rfl)
theorem dX11_watcherLine_12 : decode cX11_watcherLine 12 = .ok (.iconst 3, 1) := dk_6 (dk_at dksX11_watcherLine_0 12 rfl rfl)
theorem dX11_watcherLine_13 : decode cX11_watcherLine 13 = .ok (.invokevirtual 91, 3) := dk_182 0 91 (dk_at dksX11_watcherLine_0 13 rfl rfl)
theorem dX11_watcherLine_16 : decode cX11_watcherLine 16 = .ok (.athrow, 1) := dk_191 (dk_at dksX11_watcherLine_0 16 rfl rfl)
theorem dX11_watcherLine_17 : decode cX11_watcherLine 17 = .ok (.aload_n 0, 1) := dk_42 (dk_at dksX11_watcherLine_0 17 rfl rfl)
theorem dX11_watcherLine_18 : decode cX11_watcherLine 18 = .ok (.invokevirtual 44, 3) := dk_182 0 44 (dk_at dksX11_watcherLine_0 18 rfl rfl)
theorem dX11_watcherLine_21 : decode cX11_watcherLine 21 = .ok (.aload_n 0, 1) := dk_42 (dk_at dksX11_watcherLine_0 21 rfl rfl)
theorem dX11_watcherLine_22 : decode cX11_watcherLine 22 = .ok (.getfield 32, 3) := dk_180 0 32 (dk_at dksX11_watcherLine_1 0 rfl rfl)
theorem dX11_watcherLine_25 : decode cX11_watcherLine 25 = .ok (.getfield 119, 3) := dk_180 0 119 (dk_at dksX11_watcherLine_1 3 rfl rfl)
theorem dX11_watcherLine_28 : decode cX11_watcherLine 28 = .ok (.ifCond .ne 9, 3) := dk_154 0 9 (dk_at dksX11_watcherLine_1 6 rfl rfl)
theorem dX11_watcherLine_31 : decode cX11_watcherLine 31 = .ok (.aload_n 0, 1) := dk_42 (dk_at dksX11_watcherLine_1 9 rfl rfl)
theorem dX11_watcherLine_32 : decode cX11_watcherLine 32 = .ok (.ldc 122, 2) := dk_18 122 (dk_at dksX11_watcherLine_1 10 rfl rfl)
theorem dX11_watcherLine_34 : decode cX11_watcherLine 34 = .ok (.invokevirtual 95, 3) := dk_182 0 95 (dk_at dksX11_watcherLine_1 12 rfl rfl)
theorem dX11_watcherLine_37 : decode cX11_watcherLine 37 = .ok (.aload_n 0, 1) := dk_42 (dk_at dksX11_watcherLine_1 15 rfl rfl)
theorem dX11_watcherLine_38 : decode cX11_watcherLine 38 = .ok (.getfield 32, 3) := dk_180 0 32 (dk_at dksX11_watcherLine_1 16 rfl rfl)
theorem dX11_watcherLine_41 : decode cX11_watcherLine 41 = .ok (.getfield 124, 3) := dk_180 0 124 (dk_at dksX11_watcherLine_1 19 rfl rfl)
theorem dX11_watcherLine_44 : decode cX11_watcherLine 44 = .ok (.aload_n 0, 1) := dk_42 (dk_at dksX11_watcherLine_1 22 rfl rfl)
theorem dX11_watcherLine_45 : decode cX11_watcherLine 45 = .ok (.getfield 32, 3) := dk_180 0 32 (dk_at dksX11_watcherLine_2 0 rfl rfl)
theorem dX11_watcherLine_48 : decode cX11_watcherLine 48 = .ok (.getfield 119, 3) := dk_180 0 119 (dk_at dksX11_watcherLine_2 3 rfl rfl)
theorem dX11_watcherLine_51 : decode cX11_watcherLine 51 = .ok (.aload_n 0, 1) := dk_42 (dk_at dksX11_watcherLine_2 6 rfl rfl)
theorem dX11_watcherLine_52 : decode cX11_watcherLine 52 = .ok (.getfield 32, 3) := dk_180 0 32 (dk_at dksX11_watcherLine_2 7 rfl rfl)
theorem dX11_watcherLine_55 : decode cX11_watcherLine 55 = .ok (.getfield 119, 3) := dk_180 0 119 (dk_at dksX11_watcherLine_2 10 rfl rfl)
theorem dX11_watcherLine_58 : decode cX11_watcherLine 58 = .ok (.ifCond .ne 7, 3) := dk_154 0 7 (dk_at dksX11_watcherLine_2 13 rfl rfl)
theorem dX11_watcherLine_61 : decode cX11_watcherLine 61 = .ok (.iconst (-1), 1) := dk_2 (dk_at dksX11_watcherLine_2 16 rfl rfl)
theorem dX11_watcherLine_62 : decode cX11_watcherLine 62 = .ok (.goto 19, 3) := dk_167 0 19 (dk_at dksX11_watcherLine_2 17 rfl rfl)
theorem dX11_watcherLine_65 : decode cX11_watcherLine 65 = .ok (.aload_n 0, 1) := dk_42 (dk_at dksX11_watcherLine_2 20 rfl rfl)
theorem dX11_watcherLine_66 : decode cX11_watcherLine 66 = .ok (.ldc 128, 2) := dk_18 128 (dk_at dksX11_watcherLine_2 21 rfl rfl)
theorem dX11_watcherLine_68 : decode cX11_watcherLine 68 = .ok (.iconst 0, 1) := dk_3 (dk_at dksX11_watcherLine_2 23 rfl rfl)
theorem dX11_watcherLine_69 : decode cX11_watcherLine 69 = .ok (.aload_n 0, 1) := dk_42 (dk_at dksX11_watcherLine_3 0 rfl rfl)
theorem dX11_watcherLine_70 : decode cX11_watcherLine 70 = .ok (.getfield 32, 3) := dk_180 0 32 (dk_at dksX11_watcherLine_3 1 rfl rfl)
theorem dX11_watcherLine_73 : decode cX11_watcherLine 73 = .ok (.getfield 119, 3) := dk_180 0 119 (dk_at dksX11_watcherLine_3 4 rfl rfl)
theorem dX11_watcherLine_76 : decode cX11_watcherLine 76 = .ok (.iconst 1, 1) := dk_4 (dk_at dksX11_watcherLine_3 7 rfl rfl)
theorem dX11_watcherLine_77 : decode cX11_watcherLine 77 = .ok (.isub, 1) := dk_100 (dk_at dksX11_watcherLine_3 8 rfl rfl)
theorem dX11_watcherLine_78 : decode cX11_watcherLine 78 = .ok (.invokevirtual 106, 3) := dk_182 0 106 (dk_at dksX11_watcherLine_3 9 rfl rfl)
theorem dX11_watcherLine_81 : decode cX11_watcherLine 81 = .ok (.iastore, 1) := dk_79 (dk_at dksX11_watcherLine_3 12 rfl rfl)
theorem dX11_watcherLine_82 : decode cX11_watcherLine 82 = .ok (.aload_n 0, 1) := dk_42 (dk_at dksX11_watcherLine_3 13 rfl rfl)
theorem dX11_watcherLine_83 : decode cX11_watcherLine 83 = .ok (.getfield 32, 3) := dk_180 0 32 (dk_at dksX11_watcherLine_3 14 rfl rfl)
theorem dX11_watcherLine_86 : decode cX11_watcherLine 86 = .ok (.dup, 1) := dk_89 (dk_at dksX11_watcherLine_3 17 rfl rfl)
theorem dX11_watcherLine_87 : decode cX11_watcherLine 87 = .ok (.getfield 119, 3) := dk_180 0 119 (dk_at dksX11_watcherLine_3 18 rfl rfl)
theorem dX11_watcherLine_90 : decode cX11_watcherLine 90 = .ok (.iconst 1, 1) := dk_4 (dk_at dksX11_watcherLine_3 21 rfl rfl)
theorem dX11_watcherLine_91 : decode cX11_watcherLine 91 = .ok (.iadd, 1) := dk_96 (dk_at dksX11_watcherLine_3 22 rfl rfl)
theorem dX11_watcherLine_92 : decode cX11_watcherLine 92 = .ok (.putfield 119, 3) := dk_181 0 119 (dk_at dksX11_watcherLine_4 0 rfl rfl)
theorem dX11_watcherLine_95 : decode cX11_watcherLine 95 = .ok (.return_, 1) := dk_177 (dk_at dksX11_watcherLine_4 3 rfl rfl)
abbrev cX11_taskLine : ByteArray := prog_9_method_11_code
def yX11_taskLine : MethodName := ⟨RX11, "taskLine", "()V"⟩
def dkwX11_taskLine_5 : List UInt8 := [182, 0, 154, 87, 177]
abbrev dktX11_taskLine_5 : List UInt8 := dkwX11_taskLine_5 ++ []
def dkwX11_taskLine_4 : List UInt8 := [187, 0, 147, 89, 27, 28, 29, 21, 4, 21, 5, 42, 18, 149, 21, 5, 16, 40, 182, 0, 106, 183, 0, 151]
abbrev dktX11_taskLine_4 : List UInt8 := dkwX11_taskLine_4 ++ dktX11_taskLine_5
def dkwX11_taskLine_3 : List UInt8 := [182, 0, 106, 54, 4, 42, 18, 145, 3, 16, 20, 182, 0, 106, 54, 5, 42, 180, 0, 32, 180, 0, 130]
abbrev dktX11_taskLine_3 : List UInt8 := dkwX11_taskLine_3 ++ dktX11_taskLine_4
def dkwX11_taskLine_2 : List UInt8 := [182, 0, 106, 61, 42, 18, 141, 3, 16, 99, 182, 0, 106, 62, 42, 18, 143, 29, 4, 96, 16, 120]
abbrev dktX11_taskLine_2 : List UInt8 := dkwX11_taskLine_2 ++ dktX11_taskLine_3
def dkwX11_taskLine_1 : List UInt8 := [42, 18, 128, 3, 42, 180, 0, 32, 180, 0, 119, 4, 100, 182, 0, 106, 60, 42, 18, 139, 7, 16, 60]
abbrev dktX11_taskLine_1 : List UInt8 := dkwX11_taskLine_1 ++ dktX11_taskLine_2
def dkwX11_taskLine_0 : List UInt8 := [42, 180, 0, 32, 180, 0, 130, 182, 0, 134, 8, 160, 0, 9, 42, 6, 182, 0, 91, 191, 42, 182, 0, 44]
abbrev dktX11_taskLine_0 : List UInt8 := dkwX11_taskLine_0 ++ dktX11_taskLine_1
theorem dksX11_taskLine_0 : cX11_taskLine.data.toList.drop 0 = dktX11_taskLine_0 := by decide +kernel
theorem dksX11_taskLine_1 : cX11_taskLine.data.toList.drop 24 = dktX11_taskLine_1 := dk_seg dksX11_taskLine_0 24 rfl rfl
theorem dksX11_taskLine_2 : cX11_taskLine.data.toList.drop 47 = dktX11_taskLine_2 := dk_seg dksX11_taskLine_1 23 rfl rfl
theorem dksX11_taskLine_3 : cX11_taskLine.data.toList.drop 69 = dktX11_taskLine_3 := dk_seg dksX11_taskLine_2 22 rfl rfl
theorem dksX11_taskLine_4 : cX11_taskLine.data.toList.drop 92 = dktX11_taskLine_4 := dk_seg dksX11_taskLine_3 23 rfl rfl
theorem dksX11_taskLine_5 : cX11_taskLine.data.toList.drop 116 = dktX11_taskLine_5 := dk_seg dksX11_taskLine_4 24 rfl rfl
theorem dX11_taskLine_0 : decode cX11_taskLine 0 = .ok (.aload_n 0, 1) := dk_42 (dk_at dksX11_taskLine_0 0 rfl rfl)
theorem dX11_taskLine_1 : decode cX11_taskLine 1 = .ok (.getfield 32, 3) := dk_180 0 32 (dk_at dksX11_taskLine_0 1 rfl rfl)
theorem dX11_taskLine_4 : decode cX11_taskLine 4 = .ok (.getfield 130, 3) := dk_180 0 130 (dk_at dksX11_taskLine_0 4 rfl rfl)
theorem dX11_taskLine_7 : decode cX11_taskLine 7 = .ok (.invokevirtual 134, 3) := dk_182 0 134 (dk_at dksX11_taskLine_0 7 rfl rfl)
theorem dX11_taskLine_10 : decode cX11_taskLine 10 = .ok (.iconst 5, 1) := dk_8 (dk_at dksX11_taskLine_0 10 rfl rfl)
theorem dX11_taskLine_11 : decode cX11_taskLine 11 = .ok (.if_icmp .ne 9, 3) := dk_160 0 9 (dk_at dksX11_taskLine_0 11 rfl rfl)
theorem dX11_taskLine_14 : decode cX11_taskLine 14 = .ok (.aload_n 0, 1) := dk_42 (dk_at dksX11_taskLine_0 14 rfl rfl)
theorem dX11_taskLine_15 : decode cX11_taskLine 15 = .ok (.iconst 3, 1) := dk_6 (dk_at dksX11_taskLine_0 15 rfl rfl)
theorem dX11_taskLine_16 : decode cX11_taskLine 16 = .ok (.invokevirtual 91, 3) := dk_182 0 91 (dk_at dksX11_taskLine_0 16 rfl rfl)
theorem dX11_taskLine_19 : decode cX11_taskLine 19 = .ok (.athrow, 1) := dk_191 (dk_at dksX11_taskLine_0 19 rfl rfl)
theorem dX11_taskLine_20 : decode cX11_taskLine 20 = .ok (.aload_n 0, 1) := dk_42 (dk_at dksX11_taskLine_0 20 rfl rfl)
theorem dX11_taskLine_21 : decode cX11_taskLine 21 = .ok (.invokevirtual 44, 3) := dk_182 0 44 (dk_at dksX11_taskLine_0 21 rfl rfl)
theorem dX11_taskLine_24 : decode cX11_taskLine 24 = .ok (.aload_n 0, 1) := dk_42 (dk_at dksX11_taskLine_1 0 rfl rfl)
theorem dX11_taskLine_25 : decode cX11_taskLine 25 = .ok (.ldc 128, 2) := dk_18 128 (dk_at dksX11_taskLine_1 1 rfl rfl)
theorem dX11_taskLine_27 : decode cX11_taskLine 27 = .ok (.iconst 0, 1) := dk_3 (dk_at dksX11_taskLine_1 3 rfl rfl)
theorem dX11_taskLine_28 : decode cX11_taskLine 28 = .ok (.aload_n 0, 1) := dk_42 (dk_at dksX11_taskLine_1 4 rfl rfl)
theorem dX11_taskLine_29 : decode cX11_taskLine 29 = .ok (.getfield 32, 3) := dk_180 0 32 (dk_at dksX11_taskLine_1 5 rfl rfl)
theorem dX11_taskLine_32 : decode cX11_taskLine 32 = .ok (.getfield 119, 3) := dk_180 0 119 (dk_at dksX11_taskLine_1 8 rfl rfl)
theorem dX11_taskLine_35 : decode cX11_taskLine 35 = .ok (.iconst 1, 1) := dk_4 (dk_at dksX11_taskLine_1 11 rfl rfl)
theorem dX11_taskLine_36 : decode cX11_taskLine 36 = .ok (.isub, 1) := dk_100 (dk_at dksX11_taskLine_1 12 rfl rfl)
theorem dX11_taskLine_37 : decode cX11_taskLine 37 = .ok (.invokevirtual 106, 3) := dk_182 0 106 (dk_at dksX11_taskLine_1 13 rfl rfl)
theorem dX11_taskLine_40 : decode cX11_taskLine 40 = .ok (.istore_n 1, 1) := dk_60 (dk_at dksX11_taskLine_1 16 rfl rfl)
theorem dX11_taskLine_41 : decode cX11_taskLine 41 = .ok (.aload_n 0, 1) := dk_42 (dk_at dksX11_taskLine_1 17 rfl rfl)
theorem dX11_taskLine_42 : decode cX11_taskLine 42 = .ok (.ldc 139, 2) := dk_18 139 (dk_at dksX11_taskLine_1 18 rfl rfl)
theorem dX11_taskLine_44 : decode cX11_taskLine 44 = .ok (.iconst 4, 1) := dk_7 (dk_at dksX11_taskLine_1 20 rfl rfl)
theorem dX11_taskLine_45 : decode cX11_taskLine 45 = .ok (.bipush 60, 2) := dk_16 60 (dk_at dksX11_taskLine_1 21 rfl rfl)
theorem dX11_taskLine_47 : decode cX11_taskLine 47 = .ok (.invokevirtual 106, 3) := dk_182 0 106 (dk_at dksX11_taskLine_2 0 rfl rfl)
theorem dX11_taskLine_50 : decode cX11_taskLine 50 = .ok (.istore_n 2, 1) := dk_61 (dk_at dksX11_taskLine_2 3 rfl rfl)
theorem dX11_taskLine_51 : decode cX11_taskLine 51 = .ok (.aload_n 0, 1) := dk_42 (dk_at dksX11_taskLine_2 4 rfl rfl)
theorem dX11_taskLine_52 : decode cX11_taskLine 52 = .ok (.ldc 141, 2) := dk_18 141 (dk_at dksX11_taskLine_2 5 rfl rfl)
theorem dX11_taskLine_54 : decode cX11_taskLine 54 = .ok (.iconst 0, 1) := dk_3 (dk_at dksX11_taskLine_2 7 rfl rfl)
theorem dX11_taskLine_55 : decode cX11_taskLine 55 = .ok (.bipush 99, 2) := dk_16 99 (dk_at dksX11_taskLine_2 8 rfl rfl)
theorem dX11_taskLine_57 : decode cX11_taskLine 57 = .ok (.invokevirtual 106, 3) := dk_182 0 106 (dk_at dksX11_taskLine_2 10 rfl rfl)
theorem dX11_taskLine_60 : decode cX11_taskLine 60 = .ok (.istore_n 3, 1) := dk_62 (dk_at dksX11_taskLine_2 13 rfl rfl)
theorem dX11_taskLine_61 : decode cX11_taskLine 61 = .ok (.aload_n 0, 1) := dk_42 (dk_at dksX11_taskLine_2 14 rfl rfl)
theorem dX11_taskLine_62 : decode cX11_taskLine 62 = .ok (.ldc 143, 2) := dk_18 143 (dk_at dksX11_taskLine_2 15 rfl rfl)
theorem dX11_taskLine_64 : decode cX11_taskLine 64 = .ok (.iload_n 3, 1) := dk_29 (dk_at dksX11_taskLine_2 17 rfl rfl)
theorem dX11_taskLine_65 : decode cX11_taskLine 65 = .ok (.iconst 1, 1) := dk_4 (dk_at dksX11_taskLine_2 18 rfl rfl)
theorem dX11_taskLine_66 : decode cX11_taskLine 66 = .ok (.iadd, 1) := dk_96 (dk_at dksX11_taskLine_2 19 rfl rfl)
theorem dX11_taskLine_67 : decode cX11_taskLine 67 = .ok (.bipush 120, 2) := dk_16 120 (dk_at dksX11_taskLine_2 20 rfl rfl)
theorem dX11_taskLine_69 : decode cX11_taskLine 69 = .ok (.invokevirtual 106, 3) := dk_182 0 106 (dk_at dksX11_taskLine_3 0 rfl rfl)
theorem dX11_taskLine_72 : decode cX11_taskLine 72 = .ok (.istore 4, 2) := dk_54 4 (dk_at dksX11_taskLine_3 3 rfl rfl)
theorem dX11_taskLine_74 : decode cX11_taskLine 74 = .ok (.aload_n 0, 1) := dk_42 (dk_at dksX11_taskLine_3 5 rfl rfl)
theorem dX11_taskLine_75 : decode cX11_taskLine 75 = .ok (.ldc 145, 2) := dk_18 145 (dk_at dksX11_taskLine_3 6 rfl rfl)
theorem dX11_taskLine_77 : decode cX11_taskLine 77 = .ok (.iconst 0, 1) := dk_3 (dk_at dksX11_taskLine_3 8 rfl rfl)
theorem dX11_taskLine_78 : decode cX11_taskLine 78 = .ok (.bipush 20, 2) := dk_16 20 (dk_at dksX11_taskLine_3 9 rfl rfl)
theorem dX11_taskLine_80 : decode cX11_taskLine 80 = .ok (.invokevirtual 106, 3) := dk_182 0 106 (dk_at dksX11_taskLine_3 11 rfl rfl)
theorem dX11_taskLine_83 : decode cX11_taskLine 83 = .ok (.istore 5, 2) := dk_54 5 (dk_at dksX11_taskLine_3 14 rfl rfl)
theorem dX11_taskLine_85 : decode cX11_taskLine 85 = .ok (.aload_n 0, 1) := dk_42 (dk_at dksX11_taskLine_3 16 rfl rfl)
theorem dX11_taskLine_86 : decode cX11_taskLine 86 = .ok (.getfield 32, 3) := dk_180 0 32 (dk_at dksX11_taskLine_3 17 rfl rfl)
theorem dX11_taskLine_89 : decode cX11_taskLine 89 = .ok (.getfield 130, 3) := dk_180 0 130 (dk_at dksX11_taskLine_3 20 rfl rfl)
theorem dX11_taskLine_92 : decode cX11_taskLine 92 = .ok (.new 147, 3) := dk_187 0 147 (dk_at dksX11_taskLine_4 0 rfl rfl)
theorem dX11_taskLine_95 : decode cX11_taskLine 95 = .ok (.dup, 1) := dk_89 (dk_at dksX11_taskLine_4 3 rfl rfl)
theorem dX11_taskLine_96 : decode cX11_taskLine 96 = .ok (.iload_n 1, 1) := dk_27 (dk_at dksX11_taskLine_4 4 rfl rfl)
theorem dX11_taskLine_97 : decode cX11_taskLine 97 = .ok (.iload_n 2, 1) := dk_28 (dk_at dksX11_taskLine_4 5 rfl rfl)
theorem dX11_taskLine_98 : decode cX11_taskLine 98 = .ok (.iload_n 3, 1) := dk_29 (dk_at dksX11_taskLine_4 6 rfl rfl)
theorem dX11_taskLine_99 : decode cX11_taskLine 99 = .ok (.iload 4, 2) := dk_21 4 (dk_at dksX11_taskLine_4 7 rfl rfl)
theorem dX11_taskLine_101 : decode cX11_taskLine 101 = .ok (.iload 5, 2) := dk_21 5 (dk_at dksX11_taskLine_4 9 rfl rfl)
theorem dX11_taskLine_103 : decode cX11_taskLine 103 = .ok (.aload_n 0, 1) := dk_42 (dk_at dksX11_taskLine_4 11 rfl rfl)
theorem dX11_taskLine_104 : decode cX11_taskLine 104 = .ok (.ldc 149, 2) := dk_18 149 (dk_at dksX11_taskLine_4 12 rfl rfl)
theorem dX11_taskLine_106 : decode cX11_taskLine 106 = .ok (.iload 5, 2) := dk_21 5 (dk_at dksX11_taskLine_4 14 rfl rfl)
theorem dX11_taskLine_108 : decode cX11_taskLine 108 = .ok (.bipush 40, 2) := dk_16 40 (dk_at dksX11_taskLine_4 16 rfl rfl)
theorem dX11_taskLine_110 : decode cX11_taskLine 110 = .ok (.invokevirtual 106, 3) := dk_182 0 106 (dk_at dksX11_taskLine_4 18 rfl rfl)
theorem dX11_taskLine_113 : decode cX11_taskLine 113 = .ok (.invokespecial 151, 3) := dk_183 0 151 (dk_at dksX11_taskLine_4 21 rfl rfl)
theorem dX11_taskLine_116 : decode cX11_taskLine 116 = .ok (.invokevirtual 154, 3) := dk_182 0 154 (dk_at dksX11_taskLine_5 0 rfl rfl)
theorem dX11_taskLine_119 : decode cX11_taskLine 119 = .ok (.pop, 1) := dk_87 (dk_at dksX11_taskLine_5 3 rfl rfl)
theorem dX11_taskLine_120 : decode cX11_taskLine 120 = .ok (.return_, 1) := dk_177 (dk_at dksX11_taskLine_5 4 rfl rfl)
abbrev cX11_nodeLine : ByteArray := prog_9_method_12_code
def yX11_nodeLine : MethodName := ⟨RX11, "nodeLine", "()V"⟩
def dkwX11_nodeLine_6 : List UInt8 := [100, 182, 0, 99, 120, 128, 62, 42, 180, 0, 64, 5, 159, 255, 191, 43, 28, 29, 182, 0, 174, 177]
abbrev dktX11_nodeLine_6 : List UInt8 := dkwX11_nodeLine_6 ++ []
def dkwX11_nodeLine_5 : List UInt8 := [180, 0, 61, 184, 0, 171, 153, 0, 9, 42, 5, 182, 0, 91, 191, 29, 4, 42, 3, 43, 180, 0, 166, 4]
abbrev dktX11_nodeLine_5 : List UInt8 := dkwX11_nodeLine_5 ++ dktX11_nodeLine_6
def dkwX11_nodeLine_4 : List UInt8 := [160, 0, 39, 42, 180, 0, 61, 133, 9, 43, 180, 0, 166, 4, 100, 133, 184, 0, 50, 153, 0, 20, 29, 42]
abbrev dktX11_nodeLine_4 : List UInt8 := dkwX11_nodeLine_4 ++ dktX11_nodeLine_5
def dkwX11_nodeLine_3 : List UInt8 := [182, 0, 99, 61, 3, 62, 43, 180, 0, 166, 158, 0, 77, 42, 18, 169, 182, 0, 95, 42, 180, 0, 64, 5]
abbrev dktX11_nodeLine_3 : List UInt8 := dkwX11_nodeLine_3 ++ dktX11_nodeLine_4
def dkwX11_nodeLine_2 : List UInt8 := [180, 0, 166, 16, 6, 160, 0, 9, 42, 6, 182, 0, 91, 191, 42, 182, 0, 44, 42, 4, 16, 9]
abbrev dktX11_nodeLine_2 : List UInt8 := dkwX11_nodeLine_2 ++ dktX11_nodeLine_3
def dkwX11_nodeLine_1 : List UInt8 := [180, 0, 130, 42, 180, 0, 32, 180, 0, 130, 182, 0, 134, 4, 100, 182, 0, 162, 192, 0, 147, 76, 43]
abbrev dktX11_nodeLine_1 : List UInt8 := dkwX11_nodeLine_1 ++ dktX11_nodeLine_2
def dkwX11_nodeLine_0 : List UInt8 := [42, 180, 0, 32, 180, 0, 130, 182, 0, 158, 153, 0, 9, 42, 4, 182, 0, 91, 191, 42, 180, 0, 32]
abbrev dktX11_nodeLine_0 : List UInt8 := dkwX11_nodeLine_0 ++ dktX11_nodeLine_1
theorem dksX11_nodeLine_0 : cX11_nodeLine.data.toList.drop 0 = dktX11_nodeLine_0 := by decide +kernel
theorem dksX11_nodeLine_1 : cX11_nodeLine.data.toList.drop 23 = dktX11_nodeLine_1 := dk_seg dksX11_nodeLine_0 23 rfl rfl
theorem dksX11_nodeLine_2 : cX11_nodeLine.data.toList.drop 46 = dktX11_nodeLine_2 := dk_seg dksX11_nodeLine_1 23 rfl rfl
theorem dksX11_nodeLine_3 : cX11_nodeLine.data.toList.drop 68 = dktX11_nodeLine_3 := dk_seg dksX11_nodeLine_2 22 rfl rfl
theorem dksX11_nodeLine_4 : cX11_nodeLine.data.toList.drop 92 = dktX11_nodeLine_4 := dk_seg dksX11_nodeLine_3 24 rfl rfl
theorem dksX11_nodeLine_5 : cX11_nodeLine.data.toList.drop 116 = dktX11_nodeLine_5 := dk_seg dksX11_nodeLine_4 24 rfl rfl
theorem dksX11_nodeLine_6 : cX11_nodeLine.data.toList.drop 140 = dktX11_nodeLine_6 := dk_seg dksX11_nodeLine_5 24 rfl rfl
theorem dX11_nodeLine_0 : decode cX11_nodeLine 0 = .ok (.aload_n 0, 1) := dk_42 (dk_at dksX11_nodeLine_0 0 rfl rfl)
theorem dX11_nodeLine_1 : decode cX11_nodeLine 1 = .ok (.getfield 32, 3) := dk_180 0 32 (dk_at dksX11_nodeLine_0 1 rfl rfl)
theorem dX11_nodeLine_4 : decode cX11_nodeLine 4 = .ok (.getfield 130, 3) := dk_180 0 130 (dk_at dksX11_nodeLine_0 4 rfl rfl)
theorem dX11_nodeLine_7 : decode cX11_nodeLine 7 = .ok (.invokevirtual 158, 3) := dk_182 0 158 (dk_at dksX11_nodeLine_0 7 rfl rfl)
theorem dX11_nodeLine_10 : decode cX11_nodeLine 10 = .ok (.ifCond .eq 9, 3) := dk_153 0 9 (dk_at dksX11_nodeLine_0 10 rfl rfl)
theorem dX11_nodeLine_13 : decode cX11_nodeLine 13 = .ok (.aload_n 0, 1) := dk_42 (dk_at dksX11_nodeLine_0 13 rfl rfl)
theorem dX11_nodeLine_14 : decode cX11_nodeLine 14 = .ok (.iconst 1, 1) := dk_4 (dk_at dksX11_nodeLine_0 14 rfl rfl)
theorem dX11_nodeLine_15 : decode cX11_nodeLine 15 = .ok (.invokevirtual 91, 3) := dk_182 0 91 (dk_at dksX11_nodeLine_0 15 rfl rfl)
theorem dX11_nodeLine_18 : decode cX11_nodeLine 18 = .ok (.athrow, 1) := dk_191 (dk_at dksX11_nodeLine_0 18 rfl rfl)
theorem dX11_nodeLine_19 : decode cX11_nodeLine 19 = .ok (.aload_n 0, 1) := dk_42 (dk_at dksX11_nodeLine_0 19 rfl rfl)
theorem dX11_nodeLine_20 : decode cX11_nodeLine 20 = .ok (.getfield 32, 3) := dk_180 0 32 (dk_at dksX11_nodeLine_0 20 rfl rfl)
theorem dX11_nodeLine_23 : decode cX11_nodeLine 23 = .ok (.getfield 130, 3) := dk_180 0 130 (dk_at dksX11_nodeLine_1 0 rfl rfl)
theorem dX11_nodeLine_26 : decode cX11_nodeLine 26 = .ok (.aload_n 0, 1) := dk_42 (dk_at dksX11_nodeLine_1 3 rfl rfl)
theorem dX11_nodeLine_27 : decode cX11_nodeLine 27 = .ok (.getfield 32, 3) := dk_180 0 32 (dk_at dksX11_nodeLine_1 4 rfl rfl)
theorem dX11_nodeLine_30 : decode cX11_nodeLine 30 = .ok (.getfield 130, 3) := dk_180 0 130 (dk_at dksX11_nodeLine_1 7 rfl rfl)
theorem dX11_nodeLine_33 : decode cX11_nodeLine 33 = .ok (.invokevirtual 134, 3) := dk_182 0 134 (dk_at dksX11_nodeLine_1 10 rfl rfl)
theorem dX11_nodeLine_36 : decode cX11_nodeLine 36 = .ok (.iconst 1, 1) := dk_4 (dk_at dksX11_nodeLine_1 13 rfl rfl)
theorem dX11_nodeLine_37 : decode cX11_nodeLine 37 = .ok (.isub, 1) := dk_100 (dk_at dksX11_nodeLine_1 14 rfl rfl)
theorem dX11_nodeLine_38 : decode cX11_nodeLine 38 = .ok (.invokevirtual 162, 3) := dk_182 0 162 (dk_at dksX11_nodeLine_1 15 rfl rfl)
theorem dX11_nodeLine_41 : decode cX11_nodeLine 41 = .ok (.checkcast 147, 3) := dk_192 0 147 (dk_at dksX11_nodeLine_1 18 rfl rfl)
theorem dX11_nodeLine_44 : decode cX11_nodeLine 44 = .ok (.astore_n 1, 1) := dk_76 (dk_at dksX11_nodeLine_1 21 rfl rfl)
theorem dX11_nodeLine_45 : decode cX11_nodeLine 45 = .ok (.aload_n 1, 1) := dk_43 (dk_at dksX11_nodeLine_1 22 rfl rfl)
theorem dX11_nodeLine_46 : decode cX11_nodeLine 46 = .ok (.getfield 166, 3) := dk_180 0 166 (dk_at dksX11_nodeLine_2 0 rfl rfl)
theorem dX11_nodeLine_49 : decode cX11_nodeLine 49 = .ok (.bipush 6, 2) := dk_16 6 (dk_at dksX11_nodeLine_2 3 rfl rfl)
theorem dX11_nodeLine_51 : decode cX11_nodeLine 51 = .ok (.if_icmp .ne 9, 3) := dk_160 0 9 (dk_at dksX11_nodeLine_2 5 rfl rfl)
theorem dX11_nodeLine_54 : decode cX11_nodeLine 54 = .ok (.aload_n 0, 1) := dk_42 (dk_at dksX11_nodeLine_2 8 rfl rfl)
theorem dX11_nodeLine_55 : decode cX11_nodeLine 55 = .ok (.iconst 3, 1) := dk_6 (dk_at dksX11_nodeLine_2 9 rfl rfl)
theorem dX11_nodeLine_56 : decode cX11_nodeLine 56 = .ok (.invokevirtual 91, 3) := dk_182 0 91 (dk_at dksX11_nodeLine_2 10 rfl rfl)
theorem dX11_nodeLine_59 : decode cX11_nodeLine 59 = .ok (.athrow, 1) := dk_191 (dk_at dksX11_nodeLine_2 13 rfl rfl)
theorem dX11_nodeLine_60 : decode cX11_nodeLine 60 = .ok (.aload_n 0, 1) := dk_42 (dk_at dksX11_nodeLine_2 14 rfl rfl)
theorem dX11_nodeLine_61 : decode cX11_nodeLine 61 = .ok (.invokevirtual 44, 3) := dk_182 0 44 (dk_at dksX11_nodeLine_2 15 rfl rfl)
theorem dX11_nodeLine_64 : decode cX11_nodeLine 64 = .ok (.aload_n 0, 1) := dk_42 (dk_at dksX11_nodeLine_2 18 rfl rfl)
theorem dX11_nodeLine_65 : decode cX11_nodeLine 65 = .ok (.iconst 1, 1) := dk_4 (dk_at dksX11_nodeLine_2 19 rfl rfl)
theorem dX11_nodeLine_66 : decode cX11_nodeLine 66 = .ok (.bipush 9, 2) := dk_16 9 (dk_at dksX11_nodeLine_2 20 rfl rfl)
theorem dX11_nodeLine_68 : decode cX11_nodeLine 68 = .ok (.invokevirtual 99, 3) := dk_182 0 99 (dk_at dksX11_nodeLine_3 0 rfl rfl)
theorem dX11_nodeLine_71 : decode cX11_nodeLine 71 = .ok (.istore_n 2, 1) := dk_61 (dk_at dksX11_nodeLine_3 3 rfl rfl)
theorem dX11_nodeLine_72 : decode cX11_nodeLine 72 = .ok (.iconst 0, 1) := dk_3 (dk_at dksX11_nodeLine_3 4 rfl rfl)
theorem dX11_nodeLine_73 : decode cX11_nodeLine 73 = .ok (.istore_n 3, 1) := dk_62 (dk_at dksX11_nodeLine_3 5 rfl rfl)
theorem dX11_nodeLine_74 : decode cX11_nodeLine 74 = .ok (.aload_n 1, 1) := dk_43 (dk_at dksX11_nodeLine_3 6 rfl rfl)
theorem dX11_nodeLine_75 : decode cX11_nodeLine 75 = .ok (.getfield 166, 3) := dk_180 0 166 (dk_at dksX11_nodeLine_3 7 rfl rfl)
theorem dX11_nodeLine_78 : decode cX11_nodeLine 78 = .ok (.ifCond .le 77, 3) := dk_158 0 77 (dk_at dksX11_nodeLine_3 10 rfl rfl)
theorem dX11_nodeLine_81 : decode cX11_nodeLine 81 = .ok (.aload_n 0, 1) := dk_42 (dk_at dksX11_nodeLine_3 13 rfl rfl)
theorem dX11_nodeLine_82 : decode cX11_nodeLine 82 = .ok (.ldc 169, 2) := dk_18 169 (dk_at dksX11_nodeLine_3 14 rfl rfl)
theorem dX11_nodeLine_84 : decode cX11_nodeLine 84 = .ok (.invokevirtual 95, 3) := dk_182 0 95 (dk_at dksX11_nodeLine_3 16 rfl rfl)
theorem dX11_nodeLine_87 : decode cX11_nodeLine 87 = .ok (.aload_n 0, 1) := dk_42 (dk_at dksX11_nodeLine_3 19 rfl rfl)
theorem dX11_nodeLine_88 : decode cX11_nodeLine 88 = .ok (.getfield 64, 3) := dk_180 0 64 (dk_at dksX11_nodeLine_3 20 rfl rfl)
theorem dX11_nodeLine_91 : decode cX11_nodeLine 91 = .ok (.iconst 2, 1) := dk_5 (dk_at dksX11_nodeLine_3 23 rfl rfl)
theorem dX11_nodeLine_92 : decode cX11_nodeLine 92 = .ok (.if_icmp .ne 39, 3) := dk_160 0 39 (dk_at dksX11_nodeLine_4 0 rfl rfl)
theorem dX11_nodeLine_95 : decode cX11_nodeLine 95 = .ok (.aload_n 0, 1) := dk_42 (dk_at dksX11_nodeLine_4 3 rfl rfl)
theorem dX11_nodeLine_96 : decode cX11_nodeLine 96 = .ok (.getfield 61, 3) := dk_180 0 61 (dk_at dksX11_nodeLine_4 4 rfl rfl)
theorem dX11_nodeLine_99 : decode cX11_nodeLine 99 = .ok (.i2l, 1) := dk_133 (dk_at dksX11_nodeLine_4 7 rfl rfl)
theorem dX11_nodeLine_100 : decode cX11_nodeLine 100 = .ok (.lconst 0, 1) := dk_9 (dk_at dksX11_nodeLine_4 8 rfl rfl)
theorem dX11_nodeLine_101 : decode cX11_nodeLine 101 = .ok (.aload_n 1, 1) := dk_43 (dk_at dksX11_nodeLine_4 9 rfl rfl)
theorem dX11_nodeLine_102 : decode cX11_nodeLine 102 = .ok (.getfield 166, 3) := dk_180 0 166 (dk_at dksX11_nodeLine_4 10 rfl rfl)
theorem dX11_nodeLine_105 : decode cX11_nodeLine 105 = .ok (.iconst 1, 1) := dk_4 (dk_at dksX11_nodeLine_4 13 rfl rfl)
theorem dX11_nodeLine_106 : decode cX11_nodeLine 106 = .ok (.isub, 1) := dk_100 (dk_at dksX11_nodeLine_4 14 rfl rfl)
theorem dX11_nodeLine_107 : decode cX11_nodeLine 107 = .ok (.i2l, 1) := dk_133 (dk_at dksX11_nodeLine_4 15 rfl rfl)
theorem dX11_nodeLine_108 : decode cX11_nodeLine 108 = .ok (.invokestatic 50, 3) := dk_184 0 50 (dk_at dksX11_nodeLine_4 16 rfl rfl)
theorem dX11_nodeLine_111 : decode cX11_nodeLine 111 = .ok (.ifCond .eq 20, 3) := dk_153 0 20 (dk_at dksX11_nodeLine_4 19 rfl rfl)
theorem dX11_nodeLine_114 : decode cX11_nodeLine 114 = .ok (.iload_n 3, 1) := dk_29 (dk_at dksX11_nodeLine_4 22 rfl rfl)
theorem dX11_nodeLine_115 : decode cX11_nodeLine 115 = .ok (.aload_n 0, 1) := dk_42 (dk_at dksX11_nodeLine_4 23 rfl rfl)
theorem dX11_nodeLine_116 : decode cX11_nodeLine 116 = .ok (.getfield 61, 3) := dk_180 0 61 (dk_at dksX11_nodeLine_5 0 rfl rfl)
theorem dX11_nodeLine_119 : decode cX11_nodeLine 119 = .ok (.invokestatic 171, 3) := dk_184 0 171 (dk_at dksX11_nodeLine_5 3 rfl rfl)
theorem dX11_nodeLine_122 : decode cX11_nodeLine 122 = .ok (.ifCond .eq 9, 3) := dk_153 0 9 (dk_at dksX11_nodeLine_5 6 rfl rfl)
theorem dX11_nodeLine_125 : decode cX11_nodeLine 125 = .ok (.aload_n 0, 1) := dk_42 (dk_at dksX11_nodeLine_5 9 rfl rfl)
theorem dX11_nodeLine_126 : decode cX11_nodeLine 126 = .ok (.iconst 2, 1) := dk_5 (dk_at dksX11_nodeLine_5 10 rfl rfl)
theorem dX11_nodeLine_127 : decode cX11_nodeLine 127 = .ok (.invokevirtual 91, 3) := dk_182 0 91 (dk_at dksX11_nodeLine_5 11 rfl rfl)
theorem dX11_nodeLine_130 : decode cX11_nodeLine 130 = .ok (.athrow, 1) := dk_191 (dk_at dksX11_nodeLine_5 14 rfl rfl)
theorem dX11_nodeLine_131 : decode cX11_nodeLine 131 = .ok (.iload_n 3, 1) := dk_29 (dk_at dksX11_nodeLine_5 15 rfl rfl)
theorem dX11_nodeLine_132 : decode cX11_nodeLine 132 = .ok (.iconst 1, 1) := dk_4 (dk_at dksX11_nodeLine_5 16 rfl rfl)
theorem dX11_nodeLine_133 : decode cX11_nodeLine 133 = .ok (.aload_n 0, 1) := dk_42 (dk_at dksX11_nodeLine_5 17 rfl rfl)
theorem dX11_nodeLine_134 : decode cX11_nodeLine 134 = .ok (.iconst 0, 1) := dk_3 (dk_at dksX11_nodeLine_5 18 rfl rfl)
theorem dX11_nodeLine_135 : decode cX11_nodeLine 135 = .ok (.aload_n 1, 1) := dk_43 (dk_at dksX11_nodeLine_5 19 rfl rfl)
theorem dX11_nodeLine_136 : decode cX11_nodeLine 136 = .ok (.getfield 166, 3) := dk_180 0 166 (dk_at dksX11_nodeLine_5 20 rfl rfl)
theorem dX11_nodeLine_139 : decode cX11_nodeLine 139 = .ok (.iconst 1, 1) := dk_4 (dk_at dksX11_nodeLine_5 23 rfl rfl)
theorem dX11_nodeLine_140 : decode cX11_nodeLine 140 = .ok (.isub, 1) := dk_100 (dk_at dksX11_nodeLine_6 0 rfl rfl)
theorem dX11_nodeLine_141 : decode cX11_nodeLine 141 = .ok (.invokevirtual 99, 3) := dk_182 0 99 (dk_at dksX11_nodeLine_6 1 rfl rfl)
theorem dX11_nodeLine_144 : decode cX11_nodeLine 144 = .ok (.ishl, 1) := dk_120 (dk_at dksX11_nodeLine_6 4 rfl rfl)
theorem dX11_nodeLine_145 : decode cX11_nodeLine 145 = .ok (.ior, 1) := dk_128 (dk_at dksX11_nodeLine_6 5 rfl rfl)
theorem dX11_nodeLine_146 : decode cX11_nodeLine 146 = .ok (.istore_n 3, 1) := dk_62 (dk_at dksX11_nodeLine_6 6 rfl rfl)
theorem dX11_nodeLine_147 : decode cX11_nodeLine 147 = .ok (.aload_n 0, 1) := dk_42 (dk_at dksX11_nodeLine_6 7 rfl rfl)
theorem dX11_nodeLine_148 : decode cX11_nodeLine 148 = .ok (.getfield 64, 3) := dk_180 0 64 (dk_at dksX11_nodeLine_6 8 rfl rfl)
theorem dX11_nodeLine_151 : decode cX11_nodeLine 151 = .ok (.iconst 2, 1) := dk_5 (dk_at dksX11_nodeLine_6 11 rfl rfl)
theorem dX11_nodeLine_152 : decode cX11_nodeLine 152 = .ok (.if_icmp .eq (-65), 3) := dk_159 255 191 (dk_at dksX11_nodeLine_6 12 rfl rfl)
theorem dX11_nodeLine_155 : decode cX11_nodeLine 155 = .ok (.aload_n 1, 1) := dk_43 (dk_at dksX11_nodeLine_6 15 rfl rfl)
theorem dX11_nodeLine_156 : decode cX11_nodeLine 156 = .ok (.iload_n 2, 1) := dk_28 (dk_at dksX11_nodeLine_6 16 rfl rfl)
theorem dX11_nodeLine_157 : decode cX11_nodeLine 157 = .ok (.iload_n 3, 1) := dk_29 (dk_at dksX11_nodeLine_6 17 rfl rfl)
theorem dX11_nodeLine_158 : decode cX11_nodeLine 158 = .ok (.invokevirtual 174, 3) := dk_182 0 174 (dk_at dksX11_nodeLine_6 18 rfl rfl)
theorem dX11_nodeLine_161 : decode cX11_nodeLine 161 = .ok (.return_, 1) := dk_177 (dk_at dksX11_nodeLine_6 21 rfl rfl)
abbrev cX11_kind : ByteArray := prog_9_method_14_code
def yX11_kind : MethodName := ⟨RX11, "kind", "()I"⟩
def dkwX11_kind_1 : List UInt8 := [27, 172, 132, 1, 1, 167, 255, 229, 42, 4, 182, 0, 91, 191]
abbrev dktX11_kind_1 : List UInt8 := dkwX11_kind_1 ++ []
def dkwX11_kind_0 : List UInt8 := [3, 60, 27, 42, 180, 0, 23, 190, 162, 0, 24, 42, 42, 180, 0, 23, 27, 50, 182, 0, 87, 153, 0, 5]
abbrev dktX11_kind_0 : List UInt8 := dkwX11_kind_0 ++ dktX11_kind_1
theorem dksX11_kind_0 : cX11_kind.data.toList.drop 0 = dktX11_kind_0 := by decide +kernel
theorem dksX11_kind_1 : cX11_kind.data.toList.drop 24 = dktX11_kind_1 := dk_seg dksX11_kind_0 24 rfl rfl
theorem dX11_kind_0 : decode cX11_kind 0 = .ok (.iconst 0, 1) := dk_3 (dk_at dksX11_kind_0 0 rfl rfl)
theorem dX11_kind_1 : decode cX11_kind 1 = .ok (.istore_n 1, 1) := dk_60 (dk_at dksX11_kind_0 1 rfl rfl)
theorem dX11_kind_2 : decode cX11_kind 2 = .ok (.iload_n 1, 1) := dk_27 (dk_at dksX11_kind_0 2 rfl rfl)
theorem dX11_kind_3 : decode cX11_kind 3 = .ok (.aload_n 0, 1) := dk_42 (dk_at dksX11_kind_0 3 rfl rfl)
theorem dX11_kind_4 : decode cX11_kind 4 = .ok (.getfield 23, 3) := dk_180 0 23 (dk_at dksX11_kind_0 4 rfl rfl)
theorem dX11_kind_7 : decode cX11_kind 7 = .ok (.arraylength, 1) := dk_190 (dk_at dksX11_kind_0 7 rfl rfl)
theorem dX11_kind_8 : decode cX11_kind 8 = .ok (.if_icmp .ge 24, 3) := dk_162 0 24 (dk_at dksX11_kind_0 8 rfl rfl)
theorem dX11_kind_11 : decode cX11_kind 11 = .ok (.aload_n 0, 1) := dk_42 (dk_at dksX11_kind_0 11 rfl rfl)
theorem dX11_kind_12 : decode cX11_kind 12 = .ok (.aload_n 0, 1) := dk_42 (dk_at dksX11_kind_0 12 rfl rfl)
theorem dX11_kind_13 : decode cX11_kind 13 = .ok (.getfield 23, 3) := dk_180 0 23 (dk_at dksX11_kind_0 13 rfl rfl)
theorem dX11_kind_16 : decode cX11_kind 16 = .ok (.iload_n 1, 1) := dk_27 (dk_at dksX11_kind_0 16 rfl rfl)
theorem dX11_kind_17 : decode cX11_kind 17 = .ok (.aaload, 1) := dk_50 (dk_at dksX11_kind_0 17 rfl rfl)
theorem dX11_kind_18 : decode cX11_kind 18 = .ok (.invokevirtual 87, 3) := dk_182 0 87 (dk_at dksX11_kind_0 18 rfl rfl)
theorem dX11_kind_21 : decode cX11_kind 21 = .ok (.ifCond .eq 5, 3) := dk_153 0 5 (dk_at dksX11_kind_0 21 rfl rfl)
theorem dX11_kind_24 : decode cX11_kind 24 = .ok (.iload_n 1, 1) := dk_27 (dk_at dksX11_kind_1 0 rfl rfl)
theorem dX11_kind_25 : decode cX11_kind 25 = .ok (.ireturn, 1) := dk_172 (dk_at dksX11_kind_1 1 rfl rfl)
theorem dX11_kind_26 : decode cX11_kind 26 = .ok (.iinc 1 1, 3) := dk_132 1 1 (dk_at dksX11_kind_1 2 rfl rfl)
theorem dX11_kind_29 : decode cX11_kind 29 = .ok (.goto (-27), 3) := dk_167 255 229 (dk_at dksX11_kind_1 5 rfl rfl)
theorem dX11_kind_32 : decode cX11_kind 32 = .ok (.aload_n 0, 1) := dk_42 (dk_at dksX11_kind_1 8 rfl rfl)
theorem dX11_kind_33 : decode cX11_kind 33 = .ok (.iconst 1, 1) := dk_4 (dk_at dksX11_kind_1 9 rfl rfl)
theorem dX11_kind_34 : decode cX11_kind 34 = .ok (.invokevirtual 91, 3) := dk_182 0 91 (dk_at dksX11_kind_1 10 rfl rfl)
theorem dX11_kind_37 : decode cX11_kind 37 = .ok (.athrow, 1) := dk_191 (dk_at dksX11_kind_1 13 rfl rfl)
abbrev cX11_injectionLine : ByteArray := prog_9_method_13_code
def yX11_injectionLine : MethodName := ⟨RX11, "injectionLine", "(I)V"⟩
def dkwX11_injectionLine_10 : List UInt8 := [180, 0, 177, 4, 96, 181, 0, 177, 177]
abbrev dktX11_injectionLine_10 : List UInt8 := dkwX11_injectionLine_10 ++ []
def dkwX11_injectionLine_9 : List UInt8 := [21, 4, 42, 18, 194, 4, 16, 9, 182, 0, 106, 183, 0, 187, 182, 0, 154, 87, 42, 180, 0, 32, 89]
abbrev dktX11_injectionLine_9 : List UInt8 := dkwX11_injectionLine_9 ++ dktX11_injectionLine_10
def dkwX11_injectionLine_8 : List UInt8 := [180, 0, 166, 4, 100, 182, 0, 106, 54, 4, 42, 180, 0, 32, 180, 0, 180, 187, 0, 183, 89, 27, 28, 29]
abbrev dktX11_injectionLine_8 : List UInt8 := dkwX11_injectionLine_8 ++ dktX11_injectionLine_9
def dkwX11_injectionLine_7 : List UInt8 := [2, 167, 0, 29, 42, 18, 192, 3, 42, 180, 0, 32, 180, 0, 130, 28, 182, 0, 162, 192, 0, 147]
abbrev dktX11_injectionLine_7 : List UInt8 := dkwX11_injectionLine_7 ++ dktX11_injectionLine_8
def dkwX11_injectionLine_6 : List UInt8 := [182, 0, 134, 4, 100, 182, 0, 99, 61, 42, 18, 190, 3, 16, 50, 182, 0, 106, 62, 27, 7, 160, 0, 7]
abbrev dktX11_injectionLine_6 : List UInt8 := dkwX11_injectionLine_6 ++ dktX11_injectionLine_7
def dkwX11_injectionLine_5 : List UInt8 := [192, 0, 147, 180, 0, 166, 154, 0, 9, 42, 5, 182, 0, 91, 191, 42, 3, 42, 180, 0, 32, 180, 0, 130]
abbrev dktX11_injectionLine_5 : List UInt8 := dkwX11_injectionLine_5 ++ dktX11_injectionLine_6
def dkwX11_injectionLine_4 : List UInt8 := [180, 0, 130, 182, 0, 134, 162, 0, 32, 42, 180, 0, 32, 180, 0, 130, 42, 180, 0, 61, 182, 0, 162]
abbrev dktX11_injectionLine_4 : List UInt8 := dkwX11_injectionLine_4 ++ dktX11_injectionLine_5
def dkwX11_injectionLine_3 : List UInt8 := [182, 0, 154, 87, 167, 0, 154, 42, 180, 0, 64, 5, 160, 0, 49, 42, 180, 0, 61, 42, 180, 0, 32]
abbrev dktX11_injectionLine_3 : List UInt8 := dkwX11_injectionLine_3 ++ dktX11_injectionLine_4
def dkwX11_injectionLine_2 : List UInt8 := [180, 0, 180, 187, 0, 183, 89, 8, 28, 42, 18, 185, 3, 17, 0, 199, 182, 0, 106, 2, 2, 183, 0, 187]
abbrev dktX11_injectionLine_2 : List UInt8 := dkwX11_injectionLine_2 ++ dktX11_injectionLine_3
def dkwX11_injectionLine_1 : List UInt8 := [160, 0, 53, 42, 3, 42, 180, 0, 32, 180, 0, 119, 4, 100, 182, 0, 99, 61, 42, 180, 0, 32]
abbrev dktX11_injectionLine_1 : List UInt8 := dkwX11_injectionLine_1 ++ dktX11_injectionLine_2
def dkwX11_injectionLine_0 : List UInt8 := [42, 180, 0, 32, 180, 0, 177, 16, 8, 160, 0, 9, 42, 6, 182, 0, 91, 191, 42, 182, 0, 44, 27, 8]
abbrev dktX11_injectionLine_0 : List UInt8 := dkwX11_injectionLine_0 ++ dktX11_injectionLine_1
theorem dksX11_injectionLine_0 : cX11_injectionLine.data.toList.drop 0 = dktX11_injectionLine_0 := by decide +kernel
theorem dksX11_injectionLine_1 : cX11_injectionLine.data.toList.drop 24 = dktX11_injectionLine_1 := dk_seg dksX11_injectionLine_0 24 rfl rfl
theorem dksX11_injectionLine_2 : cX11_injectionLine.data.toList.drop 46 = dktX11_injectionLine_2 := dk_seg dksX11_injectionLine_1 22 rfl rfl
theorem dksX11_injectionLine_3 : cX11_injectionLine.data.toList.drop 70 = dktX11_injectionLine_3 := dk_seg dksX11_injectionLine_2 24 rfl rfl
theorem dksX11_injectionLine_4 : cX11_injectionLine.data.toList.drop 93 = dktX11_injectionLine_4 := dk_seg dksX11_injectionLine_3 23 rfl rfl
theorem dksX11_injectionLine_5 : cX11_injectionLine.data.toList.drop 116 = dktX11_injectionLine_5 := dk_seg dksX11_injectionLine_4 23 rfl rfl
theorem dksX11_injectionLine_6 : cX11_injectionLine.data.toList.drop 140 = dktX11_injectionLine_6 := dk_seg dksX11_injectionLine_5 24 rfl rfl
theorem dksX11_injectionLine_7 : cX11_injectionLine.data.toList.drop 164 = dktX11_injectionLine_7 := dk_seg dksX11_injectionLine_6 24 rfl rfl
theorem dksX11_injectionLine_8 : cX11_injectionLine.data.toList.drop 186 = dktX11_injectionLine_8 := dk_seg dksX11_injectionLine_7 22 rfl rfl
theorem dksX11_injectionLine_9 : cX11_injectionLine.data.toList.drop 210 = dktX11_injectionLine_9 := dk_seg dksX11_injectionLine_8 24 rfl rfl
theorem dksX11_injectionLine_10 : cX11_injectionLine.data.toList.drop 233 = dktX11_injectionLine_10 := dk_seg dksX11_injectionLine_9 23 rfl rfl
theorem dX11_injectionLine_0 : decode cX11_injectionLine 0 = .ok (.aload_n 0, 1) := dk_42 (dk_at dksX11_injectionLine_0 0 rfl rfl)
theorem dX11_injectionLine_1 : decode cX11_injectionLine 1 = .ok (.getfield 32, 3) := dk_180 0 32 (dk_at dksX11_injectionLine_0 1 rfl rfl)
theorem dX11_injectionLine_4 : decode cX11_injectionLine 4 = .ok (.getfield 177, 3) := dk_180 0 177 (dk_at dksX11_injectionLine_0 4 rfl rfl)
theorem dX11_injectionLine_7 : decode cX11_injectionLine 7 = .ok (.bipush 8, 2) := dk_16 8 (dk_at dksX11_injectionLine_0 7 rfl rfl)
theorem dX11_injectionLine_9 : decode cX11_injectionLine 9 = .ok (.if_icmp .ne 9, 3) := dk_160 0 9 (dk_at dksX11_injectionLine_0 9 rfl rfl)
theorem dX11_injectionLine_12 : decode cX11_injectionLine 12 = .ok (.aload_n 0, 1) := dk_42 (dk_at dksX11_injectionLine_0 12 rfl rfl)
theorem dX11_injectionLine_13 : decode cX11_injectionLine 13 = .ok (.iconst 3, 1) := dk_6 (dk_at dksX11_injectionLine_0 13 rfl rfl)
theorem dX11_injectionLine_14 : decode cX11_injectionLine 14 = .ok (.invokevirtual 91, 3) := dk_182 0 91 (dk_at dksX11_injectionLine_0 14 rfl rfl)
theorem dX11_injectionLine_17 : decode cX11_injectionLine 17 = .ok (.athrow, 1) := dk_191 (dk_at dksX11_injectionLine_0 17 rfl rfl)
theorem dX11_injectionLine_18 : decode cX11_injectionLine 18 = .ok (.aload_n 0, 1) := dk_42 (dk_at dksX11_injectionLine_0 18 rfl rfl)
theorem dX11_injectionLine_19 : decode cX11_injectionLine 19 = .ok (.invokevirtual 44, 3) := dk_182 0 44 (dk_at dksX11_injectionLine_0 19 rfl rfl)
theorem dX11_injectionLine_22 : decode cX11_injectionLine 22 = .ok (.iload_n 1, 1) := dk_27 (dk_at dksX11_injectionLine_0 22 rfl rfl)
theorem dX11_injectionLine_23 : decode cX11_injectionLine 23 = .ok (.iconst 5, 1) := dk_8 (dk_at dksX11_injectionLine_0 23 rfl rfl)
theorem dX11_injectionLine_24 : decode cX11_injectionLine 24 = .ok (.if_icmp .ne 53, 3) := dk_160 0 53 (dk_at dksX11_injectionLine_1 0 rfl rfl)
theorem dX11_injectionLine_27 : decode cX11_injectionLine 27 = .ok (.aload_n 0, 1) := dk_42 (dk_at dksX11_injectionLine_1 3 rfl rfl)
theorem dX11_injectionLine_28 : decode cX11_injectionLine 28 = .ok (.iconst 0, 1) := dk_3 (dk_at dksX11_injectionLine_1 4 rfl rfl)
theorem dX11_injectionLine_29 : decode cX11_injectionLine 29 = .ok (.aload_n 0, 1) := dk_42 (dk_at dksX11_injectionLine_1 5 rfl rfl)
theorem dX11_injectionLine_30 : decode cX11_injectionLine 30 = .ok (.getfield 32, 3) := dk_180 0 32 (dk_at dksX11_injectionLine_1 6 rfl rfl)
theorem dX11_injectionLine_33 : decode cX11_injectionLine 33 = .ok (.getfield 119, 3) := dk_180 0 119 (dk_at dksX11_injectionLine_1 9 rfl rfl)
theorem dX11_injectionLine_36 : decode cX11_injectionLine 36 = .ok (.iconst 1, 1) := dk_4 (dk_at dksX11_injectionLine_1 12 rfl rfl)
theorem dX11_injectionLine_37 : decode cX11_injectionLine 37 = .ok (.isub, 1) := dk_100 (dk_at dksX11_injectionLine_1 13 rfl rfl)
theorem dX11_injectionLine_38 : decode cX11_injectionLine 38 = .ok (.invokevirtual 99, 3) := dk_182 0 99 (dk_at dksX11_injectionLine_1 14 rfl rfl)
theorem dX11_injectionLine_41 : decode cX11_injectionLine 41 = .ok (.istore_n 2, 1) := dk_61 (dk_at dksX11_injectionLine_1 17 rfl rfl)
theorem dX11_injectionLine_42 : decode cX11_injectionLine 42 = .ok (.aload_n 0, 1) := dk_42 (dk_at dksX11_injectionLine_1 18 rfl rfl)
theorem dX11_injectionLine_43 : decode cX11_injectionLine 43 = .ok (.getfield 32, 3) := dk_180 0 32 (dk_at dksX11_injectionLine_1 19 rfl rfl)
theorem dX11_injectionLine_46 : decode cX11_injectionLine 46 = .ok (.getfield 180, 3) := dk_180 0 180 (dk_at dksX11_injectionLine_2 0 rfl rfl)
theorem dX11_injectionLine_49 : decode cX11_injectionLine 49 = .ok (.new 183, 3) := dk_187 0 183 (dk_at dksX11_injectionLine_2 3 rfl rfl)
theorem dX11_injectionLine_52 : decode cX11_injectionLine 52 = .ok (.dup, 1) := dk_89 (dk_at dksX11_injectionLine_2 6 rfl rfl)
theorem dX11_injectionLine_53 : decode cX11_injectionLine 53 = .ok (.iconst 5, 1) := dk_8 (dk_at dksX11_injectionLine_2 7 rfl rfl)
theorem dX11_injectionLine_54 : decode cX11_injectionLine 54 = .ok (.iload_n 2, 1) := dk_28 (dk_at dksX11_injectionLine_2 8 rfl rfl)
theorem dX11_injectionLine_55 : decode cX11_injectionLine 55 = .ok (.aload_n 0, 1) := dk_42 (dk_at dksX11_injectionLine_2 9 rfl rfl)
theorem dX11_injectionLine_56 : decode cX11_injectionLine 56 = .ok (.ldc 185, 2) := dk_18 185 (dk_at dksX11_injectionLine_2 10 rfl rfl)
theorem dX11_injectionLine_58 : decode cX11_injectionLine 58 = .ok (.iconst 0, 1) := dk_3 (dk_at dksX11_injectionLine_2 12 rfl rfl)
theorem dX11_injectionLine_59 : decode cX11_injectionLine 59 = .ok (.sipush 199, 3) := dk_17 0 199 (dk_at dksX11_injectionLine_2 13 rfl rfl)
theorem dX11_injectionLine_62 : decode cX11_injectionLine 62 = .ok (.invokevirtual 106, 3) := dk_182 0 106 (dk_at dksX11_injectionLine_2 16 rfl rfl)
theorem dX11_injectionLine_65 : decode cX11_injectionLine 65 = .ok (.iconst (-1), 1) := dk_2 (dk_at dksX11_injectionLine_2 19 rfl rfl)
theorem dX11_injectionLine_66 : decode cX11_injectionLine 66 = .ok (.iconst (-1), 1) := dk_2 (dk_at dksX11_injectionLine_2 20 rfl rfl)
theorem dX11_injectionLine_67 : decode cX11_injectionLine 67 = .ok (.invokespecial 187, 3) := dk_183 0 187 (dk_at dksX11_injectionLine_2 21 rfl rfl)
theorem dX11_injectionLine_70 : decode cX11_injectionLine 70 = .ok (.invokevirtual 154, 3) := dk_182 0 154 (dk_at dksX11_injectionLine_3 0 rfl rfl)
theorem dX11_injectionLine_73 : decode cX11_injectionLine 73 = .ok (.pop, 1) := dk_87 (dk_at dksX11_injectionLine_3 3 rfl rfl)
theorem dX11_injectionLine_74 : decode cX11_injectionLine 74 = .ok (.goto 154, 3) := dk_167 0 154 (dk_at dksX11_injectionLine_3 4 rfl rfl)
theorem dX11_injectionLine_77 : decode cX11_injectionLine 77 = .ok (.aload_n 0, 1) := dk_42 (dk_at dksX11_injectionLine_3 7 rfl rfl)
theorem dX11_injectionLine_78 : decode cX11_injectionLine 78 = .ok (.getfield 64, 3) := dk_180 0 64 (dk_at dksX11_injectionLine_3 8 rfl rfl)
theorem dX11_injectionLine_81 : decode cX11_injectionLine 81 = .ok (.iconst 2, 1) := dk_5 (dk_at dksX11_injectionLine_3 11 rfl rfl)
theorem dX11_injectionLine_82 : decode cX11_injectionLine 82 = .ok (.if_icmp .ne 49, 3) := dk_160 0 49 (dk_at dksX11_injectionLine_3 12 rfl rfl)
theorem dX11_injectionLine_85 : decode cX11_injectionLine 85 = .ok (.aload_n 0, 1) := dk_42 (dk_at dksX11_injectionLine_3 15 rfl rfl)
theorem dX11_injectionLine_86 : decode cX11_injectionLine 86 = .ok (.getfield 61, 3) := dk_180 0 61 (dk_at dksX11_injectionLine_3 16 rfl rfl)
theorem dX11_injectionLine_89 : decode cX11_injectionLine 89 = .ok (.aload_n 0, 1) := dk_42 (dk_at dksX11_injectionLine_3 19 rfl rfl)
theorem dX11_injectionLine_90 : decode cX11_injectionLine 90 = .ok (.getfield 32, 3) := dk_180 0 32 (dk_at dksX11_injectionLine_3 20 rfl rfl)
theorem dX11_injectionLine_93 : decode cX11_injectionLine 93 = .ok (.getfield 130, 3) := dk_180 0 130 (dk_at dksX11_injectionLine_4 0 rfl rfl)
theorem dX11_injectionLine_96 : decode cX11_injectionLine 96 = .ok (.invokevirtual 134, 3) := dk_182 0 134 (dk_at dksX11_injectionLine_4 3 rfl rfl)
theorem dX11_injectionLine_99 : decode cX11_injectionLine 99 = .ok (.if_icmp .ge 32, 3) := dk_162 0 32 (dk_at dksX11_injectionLine_4 6 rfl rfl)
theorem dX11_injectionLine_102 : decode cX11_injectionLine 102 = .ok (.aload_n 0, 1) := dk_42 (dk_at dksX11_injectionLine_4 9 rfl rfl)
theorem dX11_injectionLine_103 : decode cX11_injectionLine 103 = .ok (.getfield 32, 3) := dk_180 0 32 (dk_at dksX11_injectionLine_4 10 rfl rfl)
theorem dX11_injectionLine_106 : decode cX11_injectionLine 106 = .ok (.getfield 130, 3) := dk_180 0 130 (dk_at dksX11_injectionLine_4 13 rfl rfl)
theorem dX11_injectionLine_109 : decode cX11_injectionLine 109 = .ok (.aload_n 0, 1) := dk_42 (dk_at dksX11_injectionLine_4 16 rfl rfl)
theorem dX11_injectionLine_110 : decode cX11_injectionLine 110 = .ok (.getfield 61, 3) := dk_180 0 61 (dk_at dksX11_injectionLine_4 17 rfl rfl)
theorem dX11_injectionLine_113 : decode cX11_injectionLine 113 = .ok (.invokevirtual 162, 3) := dk_182 0 162 (dk_at dksX11_injectionLine_4 20 rfl rfl)
theorem dX11_injectionLine_116 : decode cX11_injectionLine 116 = .ok (.checkcast 147, 3) := dk_192 0 147 (dk_at dksX11_injectionLine_5 0 rfl rfl)
theorem dX11_injectionLine_119 : decode cX11_injectionLine 119 = .ok (.getfield 166, 3) := dk_180 0 166 (dk_at dksX11_injectionLine_5 3 rfl rfl)
theorem dX11_injectionLine_122 : decode cX11_injectionLine 122 = .ok (.ifCond .ne 9, 3) := dk_154 0 9 (dk_at dksX11_injectionLine_5 6 rfl rfl)
theorem dX11_injectionLine_125 : decode cX11_injectionLine 125 = .ok (.aload_n 0, 1) := dk_42 (dk_at dksX11_injectionLine_5 9 rfl rfl)
theorem dX11_injectionLine_126 : decode cX11_injectionLine 126 = .ok (.iconst 2, 1) := dk_5 (dk_at dksX11_injectionLine_5 10 rfl rfl)
theorem dX11_injectionLine_127 : decode cX11_injectionLine 127 = .ok (.invokevirtual 91, 3) := dk_182 0 91 (dk_at dksX11_injectionLine_5 11 rfl rfl)
theorem dX11_injectionLine_130 : decode cX11_injectionLine 130 = .ok (.athrow, 1) := dk_191 (dk_at dksX11_injectionLine_5 14 rfl rfl)
theorem dX11_injectionLine_131 : decode cX11_injectionLine 131 = .ok (.aload_n 0, 1) := dk_42 (dk_at dksX11_injectionLine_5 15 rfl rfl)
theorem dX11_injectionLine_132 : decode cX11_injectionLine 132 = .ok (.iconst 0, 1) := dk_3 (dk_at dksX11_injectionLine_5 16 rfl rfl)
theorem dX11_injectionLine_133 : decode cX11_injectionLine 133 = .ok (.aload_n 0, 1) := dk_42 (dk_at dksX11_injectionLine_5 17 rfl rfl)
theorem dX11_injectionLine_134 : decode cX11_injectionLine 134 = .ok (.getfield 32, 3) := dk_180 0 32 (dk_at dksX11_injectionLine_5 18 rfl rfl)
theorem dX11_injectionLine_137 : decode cX11_injectionLine 137 = .ok (.getfield 130, 3) := dk_180 0 130 (dk_at dksX11_injectionLine_5 21 rfl rfl)
theorem dX11_injectionLine_140 : decode cX11_injectionLine 140 = .ok (.invokevirtual 134, 3) := dk_182 0 134 (dk_at dksX11_injectionLine_6 0 rfl rfl)
theorem dX11_injectionLine_143 : decode cX11_injectionLine 143 = .ok (.iconst 1, 1) := dk_4 (dk_at dksX11_injectionLine_6 3 rfl rfl)
theorem dX11_injectionLine_144 : decode cX11_injectionLine 144 = .ok (.isub, 1) := dk_100 (dk_at dksX11_injectionLine_6 4 rfl rfl)
theorem dX11_injectionLine_145 : decode cX11_injectionLine 145 = .ok (.invokevirtual 99, 3) := dk_182 0 99 (dk_at dksX11_injectionLine_6 5 rfl rfl)
theorem dX11_injectionLine_148 : decode cX11_injectionLine 148 = .ok (.istore_n 2, 1) := dk_61 (dk_at dksX11_injectionLine_6 8 rfl rfl)
theorem dX11_injectionLine_149 : decode cX11_injectionLine 149 = .ok (.aload_n 0, 1) := dk_42 (dk_at dksX11_injectionLine_6 9 rfl rfl)
theorem dX11_injectionLine_150 : decode cX11_injectionLine 150 = .ok (.ldc 190, 2) := dk_18 190 (dk_at dksX11_injectionLine_6 10 rfl rfl)
theorem dX11_injectionLine_152 : decode cX11_injectionLine 152 = .ok (.iconst 0, 1) := dk_3 (dk_at dksX11_injectionLine_6 12 rfl rfl)
theorem dX11_injectionLine_153 : decode cX11_injectionLine 153 = .ok (.bipush 50, 2) := dk_16 50 (dk_at dksX11_injectionLine_6 13 rfl rfl)
theorem dX11_injectionLine_155 : decode cX11_injectionLine 155 = .ok (.invokevirtual 106, 3) := dk_182 0 106 (dk_at dksX11_injectionLine_6 15 rfl rfl)
theorem dX11_injectionLine_158 : decode cX11_injectionLine 158 = .ok (.istore_n 3, 1) := dk_62 (dk_at dksX11_injectionLine_6 18 rfl rfl)
theorem dX11_injectionLine_159 : decode cX11_injectionLine 159 = .ok (.iload_n 1, 1) := dk_27 (dk_at dksX11_injectionLine_6 19 rfl rfl)
theorem dX11_injectionLine_160 : decode cX11_injectionLine 160 = .ok (.iconst 4, 1) := dk_7 (dk_at dksX11_injectionLine_6 20 rfl rfl)
theorem dX11_injectionLine_161 : decode cX11_injectionLine 161 = .ok (.if_icmp .ne 7, 3) := dk_160 0 7 (dk_at dksX11_injectionLine_6 21 rfl rfl)
theorem dX11_injectionLine_164 : decode cX11_injectionLine 164 = .ok (.iconst (-1), 1) := dk_2 (dk_at dksX11_injectionLine_7 0 rfl rfl)
theorem dX11_injectionLine_165 : decode cX11_injectionLine 165 = .ok (.goto 29, 3) := dk_167 0 29 (dk_at dksX11_injectionLine_7 1 rfl rfl)
theorem dX11_injectionLine_168 : decode cX11_injectionLine 168 = .ok (.aload_n 0, 1) := dk_42 (dk_at dksX11_injectionLine_7 4 rfl rfl)
theorem dX11_injectionLine_169 : decode cX11_injectionLine 169 = .ok (.ldc 192, 2) := dk_18 192 (dk_at dksX11_injectionLine_7 5 rfl rfl)
theorem dX11_injectionLine_171 : decode cX11_injectionLine 171 = .ok (.iconst 0, 1) := dk_3 (dk_at dksX11_injectionLine_7 7 rfl rfl)
theorem dX11_injectionLine_172 : decode cX11_injectionLine 172 = .ok (.aload_n 0, 1) := dk_42 (dk_at dksX11_injectionLine_7 8 rfl rfl)
theorem dX11_injectionLine_173 : decode cX11_injectionLine 173 = .ok (.getfield 32, 3) := dk_180 0 32 (dk_at dksX11_injectionLine_7 9 rfl rfl)
theorem dX11_injectionLine_176 : decode cX11_injectionLine 176 = .ok (.getfield 130, 3) := dk_180 0 130 (dk_at dksX11_injectionLine_7 12 rfl rfl)
theorem dX11_injectionLine_179 : decode cX11_injectionLine 179 = .ok (.iload_n 2, 1) := dk_28 (dk_at dksX11_injectionLine_7 15 rfl rfl)
theorem dX11_injectionLine_180 : decode cX11_injectionLine 180 = .ok (.invokevirtual 162, 3) := dk_182 0 162 (dk_at dksX11_injectionLine_7 16 rfl rfl)
theorem dX11_injectionLine_183 : decode cX11_injectionLine 183 = .ok (.checkcast 147, 3) := dk_192 0 147 (dk_at dksX11_injectionLine_7 19 rfl rfl)
theorem dX11_injectionLine_186 : decode cX11_injectionLine 186 = .ok (.getfield 166, 3) := dk_180 0 166 (dk_at dksX11_injectionLine_8 0 rfl rfl)
theorem dX11_injectionLine_189 : decode cX11_injectionLine 189 = .ok (.iconst 1, 1) := dk_4 (dk_at dksX11_injectionLine_8 3 rfl rfl)
theorem dX11_injectionLine_190 : decode cX11_injectionLine 190 = .ok (.isub, 1) := dk_100 (dk_at dksX11_injectionLine_8 4 rfl rfl)
theorem dX11_injectionLine_191 : decode cX11_injectionLine 191 = .ok (.invokevirtual 106, 3) := dk_182 0 106 (dk_at dksX11_injectionLine_8 5 rfl rfl)
theorem dX11_injectionLine_194 : decode cX11_injectionLine 194 = .ok (.istore 4, 2) := dk_54 4 (dk_at dksX11_injectionLine_8 8 rfl rfl)
theorem dX11_injectionLine_196 : decode cX11_injectionLine 196 = .ok (.aload_n 0, 1) := dk_42 (dk_at dksX11_injectionLine_8 10 rfl rfl)
theorem dX11_injectionLine_197 : decode cX11_injectionLine 197 = .ok (.getfield 32, 3) := dk_180 0 32 (dk_at dksX11_injectionLine_8 11 rfl rfl)
theorem dX11_injectionLine_200 : decode cX11_injectionLine 200 = .ok (.getfield 180, 3) := dk_180 0 180 (dk_at dksX11_injectionLine_8 14 rfl rfl)
theorem dX11_injectionLine_203 : decode cX11_injectionLine 203 = .ok (.new 183, 3) := dk_187 0 183 (dk_at dksX11_injectionLine_8 17 rfl rfl)
theorem dX11_injectionLine_206 : decode cX11_injectionLine 206 = .ok (.dup, 1) := dk_89 (dk_at dksX11_injectionLine_8 20 rfl rfl)
theorem dX11_injectionLine_207 : decode cX11_injectionLine 207 = .ok (.iload_n 1, 1) := dk_27 (dk_at dksX11_injectionLine_8 21 rfl rfl)
theorem dX11_injectionLine_208 : decode cX11_injectionLine 208 = .ok (.iload_n 2, 1) := dk_28 (dk_at dksX11_injectionLine_8 22 rfl rfl)
theorem dX11_injectionLine_209 : decode cX11_injectionLine 209 = .ok (.iload_n 3, 1) := dk_29 (dk_at dksX11_injectionLine_8 23 rfl rfl)
theorem dX11_injectionLine_210 : decode cX11_injectionLine 210 = .ok (.iload 4, 2) := dk_21 4 (dk_at dksX11_injectionLine_9 0 rfl rfl)
theorem dX11_injectionLine_212 : decode cX11_injectionLine 212 = .ok (.aload_n 0, 1) := dk_42 (dk_at dksX11_injectionLine_9 2 rfl rfl)
theorem dX11_injectionLine_213 : decode cX11_injectionLine 213 = .ok (.ldc 194, 2) := dk_18 194 (dk_at dksX11_injectionLine_9 3 rfl rfl)
theorem dX11_injectionLine_215 : decode cX11_injectionLine 215 = .ok (.iconst 1, 1) := dk_4 (dk_at dksX11_injectionLine_9 5 rfl rfl)
theorem dX11_injectionLine_216 : decode cX11_injectionLine 216 = .ok (.bipush 9, 2) := dk_16 9 (dk_at dksX11_injectionLine_9 6 rfl rfl)
theorem dX11_injectionLine_218 : decode cX11_injectionLine 218 = .ok (.invokevirtual 106, 3) := dk_182 0 106 (dk_at dksX11_injectionLine_9 8 rfl rfl)
theorem dX11_injectionLine_221 : decode cX11_injectionLine 221 = .ok (.invokespecial 187, 3) := dk_183 0 187 (dk_at dksX11_injectionLine_9 11 rfl rfl)
theorem dX11_injectionLine_224 : decode cX11_injectionLine 224 = .ok (.invokevirtual 154, 3) := dk_182 0 154 (dk_at dksX11_injectionLine_9 14 rfl rfl)
theorem dX11_injectionLine_227 : decode cX11_injectionLine 227 = .ok (.pop, 1) := dk_87 (dk_at dksX11_injectionLine_9 17 rfl rfl)
theorem dX11_injectionLine_228 : decode cX11_injectionLine 228 = .ok (.aload_n 0, 1) := dk_42 (dk_at dksX11_injectionLine_9 18 rfl rfl)
theorem dX11_injectionLine_229 : decode cX11_injectionLine 229 = .ok (.getfield 32, 3) := dk_180 0 32 (dk_at dksX11_injectionLine_9 19 rfl rfl)
theorem dX11_injectionLine_232 : decode cX11_injectionLine 232 = .ok (.dup, 1) := dk_89 (dk_at dksX11_injectionLine_9 22 rfl rfl)
theorem dX11_injectionLine_233 : decode cX11_injectionLine 233 = .ok (.getfield 177, 3) := dk_180 0 177 (dk_at dksX11_injectionLine_10 0 rfl rfl)
theorem dX11_injectionLine_236 : decode cX11_injectionLine 236 = .ok (.iconst 1, 1) := dk_4 (dk_at dksX11_injectionLine_10 3 rfl rfl)
theorem dX11_injectionLine_237 : decode cX11_injectionLine 237 = .ok (.iadd, 1) := dk_96 (dk_at dksX11_injectionLine_10 4 rfl rfl)
theorem dX11_injectionLine_238 : decode cX11_injectionLine 238 = .ok (.putfield 177, 3) := dk_181 0 177 (dk_at dksX11_injectionLine_10 5 rfl rfl)
theorem dX11_injectionLine_241 : decode cX11_injectionLine 241 = .ok (.return_, 1) := dk_177 (dk_at dksX11_injectionLine_10 8 rfl rfl)
theorem q153 : (Jvm.Cond.initialized "WatchStack$Reader") ∈ lw_all := lw_g (lw_at lw_m1 17 rfl) rfl
theorem q218 : (Jvm.Cond.fieldLinkNest "WatchStack$Reader" (130 : Nat) "WatchStack$Told" "tasks" "Ljava/util/ArrayList;" "WatchStack") ∈ lw_tbl := lw_at lw_m1 82 rfl
theorem q221 : (Jvm.Cond.fieldLinkNest "WatchStack$Reader" (180 : Nat) "WatchStack$Told" "injections" "Ljava/util/ArrayList;" "WatchStack") ∈ lw_tbl := lw_at lw_m1 85 rfl
theorem q223 : (Jvm.Cond.fieldLinkNest "WatchStack$Reader" (124 : Nat) "WatchStack$Told" "over" "[I" "WatchStack") ∈ lw_tbl := lw_at lw_m1 87 rfl
theorem q226 : (Jvm.Cond.fieldLinkNest "WatchStack$Reader" (109 : Nat) "WatchStack$Told" "ticks" "I" "WatchStack") ∈ lw_tbl := lw_at lw_m1 90 rfl
theorem q229 : (Jvm.Cond.fieldLinkNest "WatchStack$Reader" (113 : Nat) "WatchStack$Told" "cycle" "I" "WatchStack") ∈ lw_tbl := lw_at lw_m1 93 rfl
theorem q232 : (Jvm.Cond.fieldLinkNest "WatchStack$Reader" (117 : Nat) "WatchStack$Told" "low" "I" "WatchStack") ∈ lw_tbl := lw_at lw_m1 96 rfl
theorem q236 : (Jvm.Cond.fieldLinkNest "WatchStack$Reader" (119 : Nat) "WatchStack$Told" "watchers" "I" "WatchStack") ∈ lw_tbl := lw_at lw_m1 100 rfl
theorem q239 : (Jvm.Cond.fieldLinkNest "WatchStack$Reader" (177 : Nat) "WatchStack$Told" "told" "I" "WatchStack") ∈ lw_tbl := lw_at lw_m1 103 rfl
theorem q243 : (Jvm.Cond.fieldLinkNest "WatchStack$Reader" (196 : Nat) "WatchStack$Told" "lines" "I" "WatchStack") ∈ lw_tbl := lw_at lw_m1 107 rfl
theorem q584 : (Jvm.Cond.instantiable "WatchStack$Reader" (8 : Nat)) ∈ lw_all := lw_g (lw_at lw_m2 208 rfl) rfl
theorem q586 : (Jvm.Cond.instanceMethod ({ cls := "WatchStack$Reader", name := "<init>", desc := "([BI)V" } : Jvm.MethodName)) ∈ lw_all := lw_g (lw_at lw_m2 210 rfl) rfl
theorem q587 : (Jvm.Cond.code ({ cls := "WatchStack$Reader", name := "<init>", desc := "([BI)V" } : Jvm.MethodName) prog_9_method_1_code (3 : Nat) (Option.none : Option Jvm.ClassFile.FieldType)) ∈ lw_all := lw_g (lw_at lw_m2 211 rfl) rfl
theorem q588 : (Jvm.Cond.methodLink "WatchStack$Reader" (3 : Nat) ({ cls := "java/lang/Object", name := "<init>", desc := "()V" } : Jvm.MethodName)) ∈ lw_all := lw_g (lw_at lw_m2 212 rfl) rfl
theorem q589 : (Jvm.Cond.classLink "WatchStack$Reader" (9 : Nat) "java/lang/String") ∈ lw_all := lw_g (lw_at lw_m2 213 rfl) rfl
theorem q591 : (Jvm.Cond.stringRef "WatchStack$Reader" (11 : Nat) "hang") ∈ lw_tbl := lw_at lw_m2 215 rfl
theorem q592 : (Jvm.Cond.stringRef "WatchStack$Reader" (13 : Nat) "stop") ∈ lw_tbl := lw_at lw_m2 216 rfl
theorem q593 : (Jvm.Cond.stringRef "WatchStack$Reader" (15 : Nat) "skip") ∈ lw_tbl := lw_at lw_m2 217 rfl
theorem q594 : (Jvm.Cond.stringRef "WatchStack$Reader" (17 : Nat) "slow") ∈ lw_tbl := lw_at lw_m2 218 rfl
theorem q595 : (Jvm.Cond.stringRef "WatchStack$Reader" (19 : Nat) "wrong") ∈ lw_tbl := lw_at lw_m2 219 rfl
theorem q596 : (Jvm.Cond.stringRef "WatchStack$Reader" (21 : Nat) "sleep") ∈ lw_tbl := lw_at lw_m2 220 rfl
theorem q597 : (Jvm.Cond.classLink "WatchStack$Reader" (29 : Nat) "WatchStack$Told") ∈ lw_all := lw_g (lw_at lw_m2 221 rfl) rfl
theorem q598 : (Jvm.Cond.methodLinkNest "WatchStack$Reader" (31 : Nat) ({ cls := "WatchStack$Told", name := "<init>", desc := "()V" } : Jvm.MethodName) "WatchStack") ∈ lw_tbl := lw_at lw_m2 222 rfl
theorem q599 : (Jvm.Cond.methodLink "WatchStack$Reader" (44 : Nat) ({ cls := "WatchStack$Reader", name := "next", desc := "()V" } : Jvm.MethodName)) ∈ lw_all := lw_g (lw_at lw_m2 223 rfl) rfl
theorem q600 : (Jvm.Cond.privateMethod ({ cls := "WatchStack$Reader", name := "next", desc := "()V" } : Jvm.MethodName)) ∈ lw_tbl := lw_at lw_m2 224 rfl
theorem q601 : (Jvm.Cond.instanceMethod ({ cls := "WatchStack$Reader", name := "next", desc := "()V" } : Jvm.MethodName)) ∈ lw_all := lw_g (lw_at lw_m2 225 rfl) rfl
theorem q602 : (Jvm.Cond.code ({ cls := "WatchStack$Reader", name := "next", desc := "()V" } : Jvm.MethodName) prog_9_method_3_code (1 : Nat) (Option.none : Option Jvm.ClassFile.FieldType)) ∈ lw_all := lw_g (lw_at lw_m2 226 rfl) rfl
theorem q603 : (Jvm.Cond.methodLink "WatchStack$Reader" (54 : Nat) ({ cls := "WatchStack$Reader", name := "isAt", desc := "(II)Z" } : Jvm.MethodName)) ∈ lw_all := lw_g (lw_at lw_m2 227 rfl) rfl
theorem q604 : (Jvm.Cond.privateMethod ({ cls := "WatchStack$Reader", name := "isAt", desc := "(II)Z" } : Jvm.MethodName)) ∈ lw_tbl := lw_at lw_m2 228 rfl
theorem q605 : (Jvm.Cond.instanceMethod ({ cls := "WatchStack$Reader", name := "isAt", desc := "(II)Z" } : Jvm.MethodName)) ∈ lw_all := lw_g (lw_at lw_m2 229 rfl) rfl
theorem q606 : (Jvm.Cond.code ({ cls := "WatchStack$Reader", name := "isAt", desc := "(II)Z" } : Jvm.MethodName) prog_9_method_2_code (3 : Nat) (Option.some Jvm.ClassFile.FieldType.boolean)) ∈ lw_all := lw_g (lw_at lw_m2 230 rfl) rfl
theorem q607 : (Jvm.Cond.methodLinkNest "WatchStack$Reader" (50 : Nat) ({ cls := "WatchStack", name := "in", desc := "(JJJ)Z" } : Jvm.MethodName) "WatchStack") ∈ lw_tbl := lw_at lw_m2 231 rfl
theorem q608 : (Jvm.Cond.constant "WatchStack$Reader" (67 : Nat) (99999 : Int32)) ∈ lw_all := lw_g (lw_at lw_m2 232 rfl) rfl
theorem q609 : (Jvm.Cond.methodLink "WatchStack$Reader" (68 : Nat) ({ cls := "java/lang/Math", name := "min", desc := "(II)I" } : Jvm.MethodName)) ∈ lw_all := lw_g (lw_at lw_m2 233 rfl) rfl
theorem q612 : (Jvm.Cond.fieldLink "WatchStack$Reader" (23 : Nat) "WatchStack$Reader" "kinds" "[Ljava/lang/String;") ∈ lw_all := lw_g (lw_at lw_m2 236 rfl) rfl
theorem q613 : (Jvm.Cond.fieldLink "WatchStack$Reader" (36 : Nat) "WatchStack$Reader" "text" "[B") ∈ lw_all := lw_g (lw_at lw_m2 237 rfl) rfl
theorem q614 : (Jvm.Cond.fieldLink "WatchStack$Reader" (40 : Nat) "WatchStack$Reader" "many" "I") ∈ lw_all := lw_g (lw_at lw_m2 238 rfl) rfl
theorem q615 : (Jvm.Cond.fieldLink "WatchStack$Reader" (32 : Nat) "WatchStack$Reader" "t" "LWatchStack$Told;") ∈ lw_all := lw_g (lw_at lw_m2 239 rfl) rfl
theorem q616 : (Jvm.Cond.fieldLink "WatchStack$Reader" (47 : Nat) "WatchStack$Reader" "at" "I") ∈ lw_all := lw_g (lw_at lw_m3 0 rfl) rfl
theorem q617 : (Jvm.Cond.fieldLink "WatchStack$Reader" (58 : Nat) "WatchStack$Reader" "begin" "I") ∈ lw_all := lw_g (lw_at lw_m3 1 rfl) rfl
theorem q618 : (Jvm.Cond.fieldLink "WatchStack$Reader" (64 : Nat) "WatchStack$Reader" "token" "I") ∈ lw_all := lw_g (lw_at lw_m3 2 rfl) rfl
theorem q619 : (Jvm.Cond.fieldLink "WatchStack$Reader" (61 : Nat) "WatchStack$Reader" "value" "I") ∈ lw_all := lw_g (lw_at lw_m3 3 rfl) rfl
theorem q620 : (Jvm.Cond.laysFinal "WatchStack$Reader" "WatchStack$Reader" "kinds" "[Ljava/lang/String;") ∈ lw_all := lw_g (lw_at lw_m3 4 rfl) rfl
theorem q621 : (Jvm.Cond.soleField "WatchStack$Reader" "kinds") ∈ lw_all := lw_g (lw_at lw_m3 5 rfl) rfl
theorem q622 : (Jvm.Cond.laysFinal "WatchStack$Reader" "WatchStack$Reader" "text" "[B") ∈ lw_all := lw_g (lw_at lw_m3 6 rfl) rfl
theorem q623 : (Jvm.Cond.soleField "WatchStack$Reader" "text") ∈ lw_all := lw_g (lw_at lw_m3 7 rfl) rfl
theorem q624 : (Jvm.Cond.laysFinal "WatchStack$Reader" "WatchStack$Reader" "many" "I") ∈ lw_all := lw_g (lw_at lw_m3 8 rfl) rfl
theorem q625 : (Jvm.Cond.soleField "WatchStack$Reader" "many") ∈ lw_all := lw_g (lw_at lw_m3 9 rfl) rfl
theorem q626 : (Jvm.Cond.laysFinal "WatchStack$Reader" "WatchStack$Reader" "t" "LWatchStack$Told;") ∈ lw_all := lw_g (lw_at lw_m3 10 rfl) rfl
theorem q627 : (Jvm.Cond.soleField "WatchStack$Reader" "t") ∈ lw_all := lw_g (lw_at lw_m3 11 rfl) rfl
theorem q628 : (Jvm.Cond.lays "WatchStack$Reader" "WatchStack$Reader" "at" "I") ∈ lw_all := lw_g (lw_at lw_m3 12 rfl) rfl
theorem q629 : (Jvm.Cond.soleField "WatchStack$Reader" "at") ∈ lw_all := lw_g (lw_at lw_m3 13 rfl) rfl
theorem q630 : (Jvm.Cond.lays "WatchStack$Reader" "WatchStack$Reader" "begin" "I") ∈ lw_all := lw_g (lw_at lw_m3 14 rfl) rfl
theorem q631 : (Jvm.Cond.soleField "WatchStack$Reader" "begin") ∈ lw_all := lw_g (lw_at lw_m3 15 rfl) rfl
theorem q632 : (Jvm.Cond.lays "WatchStack$Reader" "WatchStack$Reader" "token" "I") ∈ lw_all := lw_g (lw_at lw_m3 16 rfl) rfl
theorem q633 : (Jvm.Cond.soleField "WatchStack$Reader" "token") ∈ lw_all := lw_g (lw_at lw_m3 17 rfl) rfl
theorem q634 : (Jvm.Cond.lays "WatchStack$Reader" "WatchStack$Reader" "value" "I") ∈ lw_all := lw_g (lw_at lw_m3 18 rfl) rfl
theorem q635 : (Jvm.Cond.soleField "WatchStack$Reader" "value") ∈ lw_all := lw_g (lw_at lw_m3 19 rfl) rfl
theorem q636 : (Jvm.Cond.superclass "WatchStack$Reader" "java/lang/Object") ∈ lw_all := lw_g (lw_at lw_m3 20 rfl) rfl
theorem q638 : (Jvm.Cond.instanceMethod ({ cls := "WatchStack$Reader", name := "reads", desc := "()LWatchStack$Told;" } : Jvm.MethodName)) ∈ lw_all := lw_g (lw_at lw_m3 22 rfl) rfl
theorem q639 : (Jvm.Cond.selects "WatchStack$Reader" ({ cls := "WatchStack$Reader", name := "reads", desc := "()LWatchStack$Told;" } : Jvm.MethodName) ({ cls := "WatchStack$Reader", name := "reads", desc := "()LWatchStack$Told;" } : Jvm.MethodName)) ∈ lw_all := lw_g (lw_at lw_m3 23 rfl) rfl
theorem q640 : (Jvm.Cond.code ({ cls := "WatchStack$Reader", name := "reads", desc := "()LWatchStack$Told;" } : Jvm.MethodName) prog_9_method_16_code (2 : Nat) (Option.some (Jvm.ClassFile.FieldType.object "WatchStack$Told"))) ∈ lw_all := lw_g (lw_at lw_m3 24 rfl) rfl
theorem q641 : (Jvm.Cond.methodLink "WatchStack$Reader" (222 : Nat) ({ cls := "WatchStack$Reader", name := "line", desc := "()V" } : Jvm.MethodName)) ∈ lw_all := lw_g (lw_at lw_m3 25 rfl) rfl
theorem q642 : (Jvm.Cond.privateMethod ({ cls := "WatchStack$Reader", name := "line", desc := "()V" } : Jvm.MethodName)) ∈ lw_tbl := lw_at lw_m3 26 rfl
theorem q643 : (Jvm.Cond.instanceMethod ({ cls := "WatchStack$Reader", name := "line", desc := "()V" } : Jvm.MethodName)) ∈ lw_all := lw_g (lw_at lw_m3 27 rfl) rfl
theorem q644 : (Jvm.Cond.code ({ cls := "WatchStack$Reader", name := "line", desc := "()V" } : Jvm.MethodName) prog_9_method_15_code (1 : Nat) (Option.none : Option Jvm.ClassFile.FieldType)) ∈ lw_all := lw_g (lw_at lw_m3 28 rfl) rfl
theorem q645 : (Jvm.Cond.methodLink "WatchStack$Reader" (199 : Nat) ({ cls := "WatchStack$Reader", name := "boardLine", desc := "()V" } : Jvm.MethodName)) ∈ lw_all := lw_g (lw_at lw_m3 29 rfl) rfl
theorem q646 : (Jvm.Cond.privateMethod ({ cls := "WatchStack$Reader", name := "boardLine", desc := "()V" } : Jvm.MethodName)) ∈ lw_tbl := lw_at lw_m3 30 rfl
theorem q647 : (Jvm.Cond.instanceMethod ({ cls := "WatchStack$Reader", name := "boardLine", desc := "()V" } : Jvm.MethodName)) ∈ lw_all := lw_g (lw_at lw_m3 31 rfl) rfl
theorem q648 : (Jvm.Cond.code ({ cls := "WatchStack$Reader", name := "boardLine", desc := "()V" } : Jvm.MethodName) prog_9_method_9_code (1 : Nat) (Option.none : Option Jvm.ClassFile.FieldType)) ∈ lw_all := lw_g (lw_at lw_m3 32 rfl) rfl
theorem q649 : (Jvm.Cond.stringRef "WatchStack$Reader" (102 : Nat) "board") ∈ lw_tbl := lw_at lw_m3 33 rfl
theorem q650 : (Jvm.Cond.methodLink "WatchStack$Reader" (95 : Nat) ({ cls := "WatchStack$Reader", name := "needs", desc := "(Ljava/lang/String;)V" } : Jvm.MethodName)) ∈ lw_all := lw_g (lw_at lw_m3 34 rfl) rfl
theorem q651 : (Jvm.Cond.privateMethod ({ cls := "WatchStack$Reader", name := "needs", desc := "(Ljava/lang/String;)V" } : Jvm.MethodName)) ∈ lw_tbl := lw_at lw_m3 35 rfl
theorem q652 : (Jvm.Cond.instanceMethod ({ cls := "WatchStack$Reader", name := "needs", desc := "(Ljava/lang/String;)V" } : Jvm.MethodName)) ∈ lw_all := lw_g (lw_at lw_m3 36 rfl) rfl
theorem q653 : (Jvm.Cond.code ({ cls := "WatchStack$Reader", name := "needs", desc := "(Ljava/lang/String;)V" } : Jvm.MethodName) prog_9_method_6_code (2 : Nat) (Option.none : Option Jvm.ClassFile.FieldType)) ∈ lw_all := lw_g (lw_at lw_m3 37 rfl) rfl
theorem q654 : (Jvm.Cond.methodLink "WatchStack$Reader" (87 : Nat) ({ cls := "WatchStack$Reader", name := "is", desc := "(Ljava/lang/String;)Z" } : Jvm.MethodName)) ∈ lw_all := lw_g (lw_at lw_m3 38 rfl) rfl
theorem q655 : (Jvm.Cond.privateMethod ({ cls := "WatchStack$Reader", name := "is", desc := "(Ljava/lang/String;)Z" } : Jvm.MethodName)) ∈ lw_tbl := lw_at lw_m3 39 rfl
theorem q656 : (Jvm.Cond.instanceMethod ({ cls := "WatchStack$Reader", name := "is", desc := "(Ljava/lang/String;)Z" } : Jvm.MethodName)) ∈ lw_all := lw_g (lw_at lw_m3 40 rfl) rfl
theorem q657 : (Jvm.Cond.code ({ cls := "WatchStack$Reader", name := "is", desc := "(Ljava/lang/String;)Z" } : Jvm.MethodName) prog_9_method_5_code (3 : Nat) (Option.some Jvm.ClassFile.FieldType.boolean)) ∈ lw_all := lw_g (lw_at lw_m3 41 rfl) rfl
theorem q658 : (Jvm.Cond.methodLink "WatchStack$Reader" (79 : Nat) ({ cls := "java/lang/String", name := "length", desc := "()I" } : Jvm.MethodName)) ∈ lw_all := lw_g (lw_at lw_m3 42 rfl) rfl
theorem q668 : (Jvm.Cond.methodLink "WatchStack$Reader" (83 : Nat) ({ cls := "java/lang/String", name := "charAt", desc := "(I)C" } : Jvm.MethodName)) ∈ lw_all := lw_g (lw_at lw_m3 52 rfl) rfl
theorem q704 : (Jvm.Cond.methodLink "WatchStack$Reader" (91 : Nat) ({ cls := "WatchStack$Reader", name := "fault", desc := "(I)LWatchStack$Fault;" } : Jvm.MethodName)) ∈ lw_all := lw_g (lw_at lw_m3 88 rfl) rfl
theorem q705 : (Jvm.Cond.privateMethod ({ cls := "WatchStack$Reader", name := "fault", desc := "(I)LWatchStack$Fault;" } : Jvm.MethodName)) ∈ lw_tbl := lw_at lw_m3 89 rfl
theorem q706 : (Jvm.Cond.instanceMethod ({ cls := "WatchStack$Reader", name := "fault", desc := "(I)LWatchStack$Fault;" } : Jvm.MethodName)) ∈ lw_all := lw_g (lw_at lw_m3 90 rfl) rfl
theorem q707 : (Jvm.Cond.code ({ cls := "WatchStack$Reader", name := "fault", desc := "(I)LWatchStack$Fault;" } : Jvm.MethodName) prog_9_method_4_code (2 : Nat) (Option.some (Jvm.ClassFile.FieldType.object "WatchStack$Fault"))) ∈ lw_all := lw_g (lw_at lw_m3 91 rfl) rfl
theorem q708 : (Jvm.Cond.classLink "WatchStack$Reader" (74 : Nat) "WatchStack$Fault") ∈ lw_all := lw_g (lw_at lw_m3 92 rfl) rfl
theorem q749 : (Jvm.Cond.methodLink "WatchStack$Reader" (76 : Nat) ({ cls := "WatchStack$Fault", name := "<init>", desc := "(II)V" } : Jvm.MethodName)) ∈ lw_all := lw_g (lw_at lw_m3 133 rfl) rfl
theorem q782 : (Jvm.Cond.stringRef "WatchStack$Reader" (104 : Nat) "ticks") ∈ lw_tbl := lw_at lw_m3 166 rfl
theorem q783 : (Jvm.Cond.methodLink "WatchStack$Reader" (106 : Nat) ({ cls := "WatchStack$Reader", name := "number", desc := "(Ljava/lang/String;II)I" } : Jvm.MethodName)) ∈ lw_all := lw_g (lw_at lw_m3 167 rfl) rfl
theorem q784 : (Jvm.Cond.privateMethod ({ cls := "WatchStack$Reader", name := "number", desc := "(Ljava/lang/String;II)I" } : Jvm.MethodName)) ∈ lw_tbl := lw_at lw_m3 168 rfl
theorem q785 : (Jvm.Cond.instanceMethod ({ cls := "WatchStack$Reader", name := "number", desc := "(Ljava/lang/String;II)I" } : Jvm.MethodName)) ∈ lw_all := lw_g (lw_at lw_m3 169 rfl) rfl
theorem q786 : (Jvm.Cond.code ({ cls := "WatchStack$Reader", name := "number", desc := "(Ljava/lang/String;II)I" } : Jvm.MethodName) prog_9_method_8_code (4 : Nat) (Option.some Jvm.ClassFile.FieldType.int)) ∈ lw_all := lw_g (lw_at lw_m3 170 rfl) rfl
theorem q787 : (Jvm.Cond.methodLink "WatchStack$Reader" (99 : Nat) ({ cls := "WatchStack$Reader", name := "number", desc := "(II)I" } : Jvm.MethodName)) ∈ lw_all := lw_g (lw_at lw_m3 171 rfl) rfl
theorem q788 : (Jvm.Cond.privateMethod ({ cls := "WatchStack$Reader", name := "number", desc := "(II)I" } : Jvm.MethodName)) ∈ lw_tbl := lw_at lw_m3 172 rfl
theorem q789 : (Jvm.Cond.instanceMethod ({ cls := "WatchStack$Reader", name := "number", desc := "(II)I" } : Jvm.MethodName)) ∈ lw_all := lw_g (lw_at lw_m3 173 rfl) rfl
theorem q790 : (Jvm.Cond.code ({ cls := "WatchStack$Reader", name := "number", desc := "(II)I" } : Jvm.MethodName) prog_9_method_7_code (4 : Nat) (Option.some Jvm.ClassFile.FieldType.int)) ∈ lw_all := lw_g (lw_at lw_m3 174 rfl) rfl
theorem q791 : (Jvm.Cond.stringRef "WatchStack$Reader" (111 : Nat) "cycle") ∈ lw_tbl := lw_at lw_m3 175 rfl
theorem q792 : (Jvm.Cond.stringRef "WatchStack$Reader" (115 : Nat) "low") ∈ lw_tbl := lw_at lw_m3 176 rfl
theorem q793 : (Jvm.Cond.stringRef "WatchStack$Reader" (202 : Nat) "watcher") ∈ lw_tbl := lw_at lw_m3 177 rfl
theorem q794 : (Jvm.Cond.methodLink "WatchStack$Reader" (204 : Nat) ({ cls := "WatchStack$Reader", name := "watcherLine", desc := "()V" } : Jvm.MethodName)) ∈ lw_all := lw_g (lw_at lw_m3 178 rfl) rfl
theorem q795 : (Jvm.Cond.privateMethod ({ cls := "WatchStack$Reader", name := "watcherLine", desc := "()V" } : Jvm.MethodName)) ∈ lw_tbl := lw_at lw_m3 179 rfl
theorem q796 : (Jvm.Cond.instanceMethod ({ cls := "WatchStack$Reader", name := "watcherLine", desc := "()V" } : Jvm.MethodName)) ∈ lw_all := lw_g (lw_at lw_m3 180 rfl) rfl
theorem q797 : (Jvm.Cond.code ({ cls := "WatchStack$Reader", name := "watcherLine", desc := "()V" } : Jvm.MethodName) prog_9_method_10_code (1 : Nat) (Option.none : Option Jvm.ClassFile.FieldType)) ∈ lw_all := lw_g (lw_at lw_m3 181 rfl) rfl
theorem q798 : (Jvm.Cond.stringRef "WatchStack$Reader" (122 : Nat) "root") ∈ lw_tbl := lw_at lw_m3 182 rfl
theorem q799 : (Jvm.Cond.stringRef "WatchStack$Reader" (128 : Nat) "under") ∈ lw_tbl := lw_at lw_m3 183 rfl
theorem q800 : (Jvm.Cond.stringRef "WatchStack$Reader" (207 : Nat) "task") ∈ lw_tbl := lw_at lw_m3 184 rfl
theorem q801 : (Jvm.Cond.methodLink "WatchStack$Reader" (209 : Nat) ({ cls := "WatchStack$Reader", name := "taskLine", desc := "()V" } : Jvm.MethodName)) ∈ lw_all := lw_g (lw_at lw_m3 185 rfl) rfl
theorem q802 : (Jvm.Cond.privateMethod ({ cls := "WatchStack$Reader", name := "taskLine", desc := "()V" } : Jvm.MethodName)) ∈ lw_tbl := lw_at lw_m3 186 rfl
theorem q803 : (Jvm.Cond.instanceMethod ({ cls := "WatchStack$Reader", name := "taskLine", desc := "()V" } : Jvm.MethodName)) ∈ lw_all := lw_g (lw_at lw_m3 187 rfl) rfl
theorem q804 : (Jvm.Cond.code ({ cls := "WatchStack$Reader", name := "taskLine", desc := "()V" } : Jvm.MethodName) prog_9_method_11_code (6 : Nat) (Option.none : Option Jvm.ClassFile.FieldType)) ∈ lw_all := lw_g (lw_at lw_m3 188 rfl) rfl
theorem q805 : (Jvm.Cond.methodLink "WatchStack$Reader" (134 : Nat) ({ cls := "java/util/ArrayList", name := "size", desc := "()I" } : Jvm.MethodName)) ∈ lw_all := lw_g (lw_at lw_m3 189 rfl) rfl
theorem q806 : (Jvm.Cond.stringRef "WatchStack$Reader" (139 : Nat) "period") ∈ lw_tbl := lw_at lw_m3 190 rfl
theorem q807 : (Jvm.Cond.stringRef "WatchStack$Reader" (141 : Nat) "open") ∈ lw_tbl := lw_at lw_m3 191 rfl
theorem q808 : (Jvm.Cond.stringRef "WatchStack$Reader" (143 : Nat) "close") ∈ lw_tbl := lw_at lw_m3 192 rfl
theorem q809 : (Jvm.Cond.stringRef "WatchStack$Reader" (145 : Nat) "least") ∈ lw_tbl := lw_at lw_m3 193 rfl
theorem q810 : (Jvm.Cond.classLink "WatchStack$Reader" (147 : Nat) "WatchStack$Task") ∈ lw_all := lw_g (lw_at lw_m3 194 rfl) rfl
theorem q812 : (Jvm.Cond.stringRef "WatchStack$Reader" (149 : Nat) "most") ∈ lw_tbl := lw_at lw_m3 196 rfl
theorem q813 : (Jvm.Cond.methodLink "WatchStack$Reader" (151 : Nat) ({ cls := "WatchStack$Task", name := "<init>", desc := "(IIIIII)V" } : Jvm.MethodName)) ∈ lw_all := lw_g (lw_at lw_m3 197 rfl) rfl
theorem q836 : (Jvm.Cond.fieldLinkNest "WatchStack$Reader" (166 : Nat) "WatchStack$Task" "nodes" "I" "WatchStack") ∈ lw_tbl := lw_at lw_m3 220 rfl
theorem q857 : (Jvm.Cond.methodLink "WatchStack$Reader" (154 : Nat) ({ cls := "java/util/ArrayList", name := "add", desc := "(Ljava/lang/Object;)Z" } : Jvm.MethodName)) ∈ lw_all := lw_g (lw_at lw_m4 1 rfl) rfl
theorem q898 : (Jvm.Cond.selects "WatchStack$Reader" ({ cls := "java/lang/Object", name := "getClass", desc := "()Ljava/lang/Class;" } : Jvm.MethodName) ({ cls := "java/lang/Object", name := "getClass", desc := "()Ljava/lang/Class;" } : Jvm.MethodName)) ∈ lw_all := lw_g (lw_at lw_m4 42 rfl) rfl
theorem q920 : (Jvm.Cond.stringRef "WatchStack$Reader" (192 : Nat) "node") ∈ lw_tbl := lw_at lw_m4 64 rfl
theorem q921 : (Jvm.Cond.methodLink "WatchStack$Reader" (212 : Nat) ({ cls := "WatchStack$Reader", name := "nodeLine", desc := "()V" } : Jvm.MethodName)) ∈ lw_all := lw_g (lw_at lw_m4 65 rfl) rfl
theorem q922 : (Jvm.Cond.privateMethod ({ cls := "WatchStack$Reader", name := "nodeLine", desc := "()V" } : Jvm.MethodName)) ∈ lw_tbl := lw_at lw_m4 66 rfl
theorem q923 : (Jvm.Cond.instanceMethod ({ cls := "WatchStack$Reader", name := "nodeLine", desc := "()V" } : Jvm.MethodName)) ∈ lw_all := lw_g (lw_at lw_m4 67 rfl) rfl
theorem q924 : (Jvm.Cond.code ({ cls := "WatchStack$Reader", name := "nodeLine", desc := "()V" } : Jvm.MethodName) prog_9_method_12_code (4 : Nat) (Option.none : Option Jvm.ClassFile.FieldType)) ∈ lw_all := lw_g (lw_at lw_m4 68 rfl) rfl
theorem q925 : (Jvm.Cond.methodLink "WatchStack$Reader" (158 : Nat) ({ cls := "java/util/ArrayList", name := "isEmpty", desc := "()Z" } : Jvm.MethodName)) ∈ lw_all := lw_g (lw_at lw_m4 69 rfl) rfl
theorem q929 : (Jvm.Cond.methodLink "WatchStack$Reader" (162 : Nat) ({ cls := "java/util/ArrayList", name := "get", desc := "(I)Ljava/lang/Object;" } : Jvm.MethodName)) ∈ lw_all := lw_g (lw_at lw_m4 73 rfl) rfl
theorem q930 : (Jvm.Cond.stringRef "WatchStack$Reader" (169 : Nat) "after") ∈ lw_tbl := lw_at lw_m4 74 rfl
theorem q931 : (Jvm.Cond.methodLinkNest "WatchStack$Reader" (171 : Nat) ({ cls := "WatchStack", name := "isOn", desc := "(II)Z" } : Jvm.MethodName) "WatchStack") ∈ lw_tbl := lw_at lw_m4 75 rfl
theorem q934 : (Jvm.Cond.methodLink "WatchStack$Reader" (174 : Nat) ({ cls := "WatchStack$Task", name := "adds", desc := "(II)V" } : Jvm.MethodName)) ∈ lw_all := lw_g (lw_at lw_m4 78 rfl) rfl
theorem q939 : (Jvm.Cond.methodLink "WatchStack$Reader" (215 : Nat) ({ cls := "WatchStack$Reader", name := "kind", desc := "()I" } : Jvm.MethodName)) ∈ lw_all := lw_g (lw_at lw_m4 83 rfl) rfl
theorem q940 : (Jvm.Cond.privateMethod ({ cls := "WatchStack$Reader", name := "kind", desc := "()I" } : Jvm.MethodName)) ∈ lw_tbl := lw_at lw_m4 84 rfl
theorem q941 : (Jvm.Cond.instanceMethod ({ cls := "WatchStack$Reader", name := "kind", desc := "()I" } : Jvm.MethodName)) ∈ lw_all := lw_g (lw_at lw_m4 85 rfl) rfl
theorem q942 : (Jvm.Cond.code ({ cls := "WatchStack$Reader", name := "kind", desc := "()I" } : Jvm.MethodName) prog_9_method_14_code (2 : Nat) (Option.some Jvm.ClassFile.FieldType.int)) ∈ lw_all := lw_g (lw_at lw_m4 86 rfl) rfl
theorem q943 : (Jvm.Cond.methodLink "WatchStack$Reader" (218 : Nat) ({ cls := "WatchStack$Reader", name := "injectionLine", desc := "(I)V" } : Jvm.MethodName)) ∈ lw_all := lw_g (lw_at lw_m4 87 rfl) rfl
theorem q944 : (Jvm.Cond.privateMethod ({ cls := "WatchStack$Reader", name := "injectionLine", desc := "(I)V" } : Jvm.MethodName)) ∈ lw_tbl := lw_at lw_m4 88 rfl
theorem q945 : (Jvm.Cond.instanceMethod ({ cls := "WatchStack$Reader", name := "injectionLine", desc := "(I)V" } : Jvm.MethodName)) ∈ lw_all := lw_g (lw_at lw_m4 89 rfl) rfl
theorem q946 : (Jvm.Cond.code ({ cls := "WatchStack$Reader", name := "injectionLine", desc := "(I)V" } : Jvm.MethodName) prog_9_method_13_code (5 : Nat) (Option.none : Option Jvm.ClassFile.FieldType)) ∈ lw_all := lw_g (lw_at lw_m4 90 rfl) rfl
theorem q947 : (Jvm.Cond.classLink "WatchStack$Reader" (183 : Nat) "WatchStack$Injection") ∈ lw_all := lw_g (lw_at lw_m4 91 rfl) rfl
theorem q949 : (Jvm.Cond.stringRef "WatchStack$Reader" (185 : Nat) "tick") ∈ lw_tbl := lw_at lw_m4 93 rfl
theorem q950 : (Jvm.Cond.methodLink "WatchStack$Reader" (187 : Nat) ({ cls := "WatchStack$Injection", name := "<init>", desc := "(IIIII)V" } : Jvm.MethodName)) ∈ lw_all := lw_g (lw_at lw_m4 94 rfl) rfl
theorem q975 : (Jvm.Cond.stringRef "WatchStack$Reader" (190 : Nat) "job") ∈ lw_tbl := lw_at lw_m4 119 rfl
theorem q976 : (Jvm.Cond.stringRef "WatchStack$Reader" (194 : Nat) "times") ∈ lw_tbl := lw_at lw_m4 120 rfl
theorem q2376 : (Jvm.Cond.castable "WatchStack$Reader" "java/lang/Object") ∈ lw_tbl := lw_at lw_m10 80 rfl
theorem in_X11 : ∀ w ∈ wsX110, w ∈ lw_all := lw_in wsX110 [620, 622, 624, 626, 628, 630, 632, 634] (by decide +kernel) (by decide +kernel)

/-! WatchStack$Fault -/
set_option maxRecDepth 100000
def RX12 : String := "WatchStack$Fault"
def TX12 : u_T := fun k => match k with
  | 0 => ("java/lang/Throwable", "cause", "Ljava/lang/Throwable;", false)
  | 1 => ("java/lang/Throwable", "stackTrace", "[Ljava/lang/StackTraceElement;", false)
  | 2 => ("java/lang/Throwable", "suppressedExceptions", "Ljava/util/List;", false)
  | 3 => ("java/lang/Throwable", "detailMessage", "Ljava/lang/String;", false)
  | 4 => ("java/lang/Throwable", "backtrace", "Ljava/lang/Object;", false)
  | 5 => ("java/lang/Throwable", "depth", "I", false)
  | 6 => ("WatchStack$Fault", "kind", "I", true)
  | _ => ("WatchStack$Fault", "place", "I", true)
def tyX12 : Nat → FieldType := fun k => match k with
  | 0 => .object "java/lang/Throwable"
  | 1 => .array (.object "java/lang/StackTraceElement")
  | 2 => .object "java/util/List"
  | 3 => .object "java/lang/String"
  | 4 => .object "java/lang/Object"
  | 5 => .int
  | 6 => .int
  | _ => .int
abbrev wsX120 : List Cond := u_ws RX12 TX12 8
theorem nmX12 : ∀ a, a < 8 → ∀ b, b < 8 → a ≠ b → (TX12 a).2.1 ≠ (TX12 b).2.1 := by decide +kernel
theorem tyX12_ok : ∀ k, k < 8 → parseFieldDescriptor (TX12 k).2.2.1 = some (tyX12 k) := by decide +kernel
abbrev cX12_init : ByteArray := prog_3_method_1_code
def yX12_init : MethodName := ⟨RX12, "<init>", "(II)V"⟩
def dkwX12_init_0 : List UInt8 := [42, 1, 1, 3, 3, 183, 0, 1, 42, 27, 181, 0, 7, 42, 28, 181, 0, 13, 177]
abbrev dktX12_init_0 : List UInt8 := dkwX12_init_0 ++ []
theorem dksX12_init_0 : cX12_init.data.toList.drop 0 = dktX12_init_0 := by decide +kernel
theorem dX12_init_0 : decode cX12_init 0 = .ok (.aload_n 0, 1) := dk_42 (dk_at dksX12_init_0 0 rfl rfl)
theorem dX12_init_1 : decode cX12_init 1 = .ok (.aconst_null, 1) := dk_1 (dk_at dksX12_init_0 1 rfl rfl)
theorem dX12_init_2 : decode cX12_init 2 = .ok (.aconst_null, 1) := dk_1 (dk_at dksX12_init_0 2 rfl rfl)
theorem dX12_init_3 : decode cX12_init 3 = .ok (.iconst 0, 1) := dk_3 (dk_at dksX12_init_0 3 rfl rfl)
theorem dX12_init_4 : decode cX12_init 4 = .ok (.iconst 0, 1) := dk_3 (dk_at dksX12_init_0 4 rfl rfl)
theorem dX12_init_5 : decode cX12_init 5 = .ok (.invokespecial 1, 3) := dk_183 0 1 (dk_at dksX12_init_0 5 rfl rfl)
theorem dX12_init_8 : decode cX12_init 8 = .ok (.aload_n 0, 1) := dk_42 (dk_at dksX12_init_0 8 rfl rfl)
theorem dX12_init_9 : decode cX12_init 9 = .ok (.iload_n 1, 1) := dk_27 (dk_at dksX12_init_0 9 rfl rfl)
theorem dX12_init_10 : decode cX12_init 10 = .ok (.putfield 7, 3) := dk_181 0 7 (dk_at dksX12_init_0 10 rfl rfl)
theorem dX12_init_13 : decode cX12_init 13 = .ok (.aload_n 0, 1) := dk_42 (dk_at dksX12_init_0 13 rfl rfl)
theorem dX12_init_14 : decode cX12_init 14 = .ok (.iload_n 2, 1) := dk_28 (dk_at dksX12_init_0 14 rfl rfl)
theorem dX12_init_15 : decode cX12_init 15 = .ok (.putfield 13, 3) := dk_181 0 13 (dk_at dksX12_init_0 15 rfl rfl)
theorem dX12_init_18 : decode cX12_init 18 = .ok (.return_, 1) := dk_177 (dk_at dksX12_init_0 18 rfl rfl)
theorem q161 : (Jvm.Cond.initialized "WatchStack$Fault") ∈ lw_all := lw_g (lw_at lw_m1 25 rfl) rfl
theorem q709 : (Jvm.Cond.instantiable "WatchStack$Fault" (8 : Nat)) ∈ lw_all := lw_g (lw_at lw_m3 93 rfl) rfl
theorem q710 : (Jvm.Cond.castable "WatchStack$Fault" "WatchStack$Fault") ∈ lw_tbl := lw_at lw_m3 94 rfl
theorem q717 : (Jvm.Cond.selects "WatchStack$Fault" ({ cls := "java/lang/Throwable", name := "fillInStackTrace", desc := "(I)Ljava/lang/Throwable;" } : Jvm.MethodName) ({ cls := "java/lang/Throwable", name := "fillInStackTrace", desc := "(I)Ljava/lang/Throwable;" } : Jvm.MethodName)) ∈ lw_all := lw_g (lw_at lw_m3 101 rfl) rfl
theorem q718 : (Jvm.Cond.selects "WatchStack$Fault" ({ cls := "java/lang/Throwable", name := "fillInStackTrace", desc := "()Ljava/lang/Throwable;" } : Jvm.MethodName) ({ cls := "java/lang/Throwable", name := "fillInStackTrace", desc := "()Ljava/lang/Throwable;" } : Jvm.MethodName)) ∈ lw_all := lw_g (lw_at lw_m3 102 rfl) rfl
theorem q719 : (Jvm.Cond.lays "WatchStack$Fault" "java/lang/Throwable" "cause" "Ljava/lang/Throwable;") ∈ lw_all := lw_g (lw_at lw_m3 103 rfl) rfl
theorem q721 : (Jvm.Cond.lays "WatchStack$Fault" "java/lang/Throwable" "stackTrace" "[Ljava/lang/StackTraceElement;") ∈ lw_all := lw_g (lw_at lw_m3 105 rfl) rfl
theorem q723 : (Jvm.Cond.lays "WatchStack$Fault" "java/lang/Throwable" "suppressedExceptions" "Ljava/util/List;") ∈ lw_all := lw_g (lw_at lw_m3 107 rfl) rfl
theorem q725 : (Jvm.Cond.lays "WatchStack$Fault" "java/lang/Throwable" "detailMessage" "Ljava/lang/String;") ∈ lw_all := lw_g (lw_at lw_m3 109 rfl) rfl
theorem q727 : (Jvm.Cond.lays "WatchStack$Fault" "java/lang/Throwable" "backtrace" "Ljava/lang/Object;") ∈ lw_all := lw_g (lw_at lw_m3 111 rfl) rfl
theorem q750 : (Jvm.Cond.instanceMethod ({ cls := "WatchStack$Fault", name := "<init>", desc := "(II)V" } : Jvm.MethodName)) ∈ lw_all := lw_g (lw_at lw_m3 134 rfl) rfl
theorem q751 : (Jvm.Cond.code ({ cls := "WatchStack$Fault", name := "<init>", desc := "(II)V" } : Jvm.MethodName) prog_3_method_1_code (3 : Nat) (Option.none : Option Jvm.ClassFile.FieldType)) ∈ lw_all := lw_g (lw_at lw_m3 135 rfl) rfl
theorem q752 : (Jvm.Cond.methodLink "WatchStack$Fault" (1 : Nat) ({ cls := "java/lang/RuntimeException", name := "<init>", desc := "(Ljava/lang/String;Ljava/lang/Throwable;ZZ)V" } : Jvm.MethodName)) ∈ lw_all := lw_g (lw_at lw_m3 136 rfl) rfl
theorem q761 : (Jvm.Cond.fieldLink "WatchStack$Fault" (7 : Nat) "WatchStack$Fault" "kind" "I") ∈ lw_all := lw_g (lw_at lw_m3 145 rfl) rfl
theorem q763 : (Jvm.Cond.fieldLink "WatchStack$Fault" (13 : Nat) "WatchStack$Fault" "place" "I") ∈ lw_all := lw_g (lw_at lw_m3 147 rfl) rfl
theorem q770 : (Jvm.Cond.laysFinal "WatchStack$Fault" "WatchStack$Fault" "kind" "I") ∈ lw_all := lw_g (lw_at lw_m3 154 rfl) rfl
theorem q771 : (Jvm.Cond.soleField "WatchStack$Fault" "kind") ∈ lw_all := lw_g (lw_at lw_m3 155 rfl) rfl
theorem q772 : (Jvm.Cond.laysFinal "WatchStack$Fault" "WatchStack$Fault" "place" "I") ∈ lw_all := lw_g (lw_at lw_m3 156 rfl) rfl
theorem q773 : (Jvm.Cond.soleField "WatchStack$Fault" "place") ∈ lw_all := lw_g (lw_at lw_m3 157 rfl) rfl
theorem q778 : (Jvm.Cond.lays "WatchStack$Fault" "java/lang/Throwable" "depth" "I") ∈ lw_all := lw_g (lw_at lw_m3 162 rfl) rfl
theorem q781 : (Jvm.Cond.superclass "WatchStack$Fault" "java/lang/RuntimeException") ∈ lw_all := lw_g (lw_at lw_m3 165 rfl) rfl
theorem q893 : (Jvm.Cond.selects "WatchStack$Fault" ({ cls := "java/lang/Object", name := "getClass", desc := "()Ljava/lang/Class;" } : Jvm.MethodName) ({ cls := "java/lang/Object", name := "getClass", desc := "()Ljava/lang/Class;" } : Jvm.MethodName)) ∈ lw_all := lw_g (lw_at lw_m4 37 rfl) rfl
theorem q2377 : (Jvm.Cond.castable "WatchStack$Fault" "java/lang/Object") ∈ lw_tbl := lw_at lw_m10 81 rfl
theorem in_X12 : ∀ w ∈ wsX120, w ∈ lw_all := lw_in wsX120 [719, 721, 723, 725, 727, 778, 770, 772] (by decide +kernel) (by decide +kernel)

/-! WatchStack$Task -/
set_option maxRecDepth 100000
def RX13 : String := "WatchStack$Task"
def TX13 : u_T := fun k => match k with
  | 0 => ("WatchStack$Task", "watcher", "I", true)
  | 1 => ("WatchStack$Task", "period", "I", true)
  | 2 => ("WatchStack$Task", "open", "I", true)
  | 3 => ("WatchStack$Task", "close", "I", true)
  | 4 => ("WatchStack$Task", "least", "I", true)
  | 5 => ("WatchStack$Task", "most", "I", true)
  | 6 => ("WatchStack$Task", "units", "[I", true)
  | 7 => ("WatchStack$Task", "behind", "[I", true)
  | _ => ("WatchStack$Task", "nodes", "I", false)
def tyX13 : Nat → FieldType := fun k => match k with
  | 0 => .int
  | 1 => .int
  | 2 => .int
  | 3 => .int
  | 4 => .int
  | 5 => .int
  | 6 => .array .int
  | 7 => .array .int
  | _ => .int
abbrev wsX130 : List Cond := u_ws RX13 TX13 9
theorem nmX13 : ∀ a, a < 9 → ∀ b, b < 9 → a ≠ b → (TX13 a).2.1 ≠ (TX13 b).2.1 := by decide +kernel
theorem tyX13_ok : ∀ k, k < 9 → parseFieldDescriptor (TX13 k).2.2.1 = some (tyX13 k) := by decide +kernel
abbrev cX13_init : ByteArray := prog_12_method_1_code
def yX13_init : MethodName := ⟨RX13, "<init>", "(IIIIII)V"⟩
def dkwX13_init_2 : List UInt8 := [181, 0, 31, 42, 21, 6, 181, 0, 34, 177]
abbrev dktX13_init_2 : List UInt8 := dkwX13_init_2 ++ []
def dkwX13_init_1 : List UInt8 := [181, 0, 18, 42, 28, 181, 0, 22, 42, 29, 181, 0, 25, 42, 21, 4, 181, 0, 28, 42, 21, 5]
abbrev dktX13_init_1 : List UInt8 := dkwX13_init_1 ++ dktX13_init_2
def dkwX13_init_0 : List UInt8 := [42, 183, 0, 3, 42, 16, 6, 188, 10, 181, 0, 9, 42, 16, 6, 188, 10, 181, 0, 15, 42, 27]
abbrev dktX13_init_0 : List UInt8 := dkwX13_init_0 ++ dktX13_init_1
theorem dksX13_init_0 : cX13_init.data.toList.drop 0 = dktX13_init_0 := by decide +kernel
theorem dksX13_init_1 : cX13_init.data.toList.drop 22 = dktX13_init_1 := dk_seg dksX13_init_0 22 rfl rfl
theorem dksX13_init_2 : cX13_init.data.toList.drop 44 = dktX13_init_2 := dk_seg dksX13_init_1 22 rfl rfl
theorem dX13_init_0 : decode cX13_init 0 = .ok (.aload_n 0, 1) := dk_42 (dk_at dksX13_init_0 0 rfl rfl)
theorem dX13_init_1 : decode cX13_init 1 = .ok (.invokespecial 3, 3) := dk_183 0 3 (dk_at dksX13_init_0 1 rfl rfl)
theorem dX13_init_4 : decode cX13_init 4 = .ok (.aload_n 0, 1) := dk_42 (dk_at dksX13_init_0 4 rfl rfl)
theorem dX13_init_5 : decode cX13_init 5 = .ok (.bipush 6, 2) := dk_16 6 (dk_at dksX13_init_0 5 rfl rfl)
theorem dX13_init_7 : decode cX13_init 7 = .ok (.newarray .int, 2) := dk_188_10 (dk_at dksX13_init_0 7 rfl rfl)
theorem dX13_init_9 : decode cX13_init 9 = .ok (.putfield 9, 3) := dk_181 0 9 (dk_at dksX13_init_0 9 rfl rfl)
theorem dX13_init_12 : decode cX13_init 12 = .ok (.aload_n 0, 1) := dk_42 (dk_at dksX13_init_0 12 rfl rfl)
theorem dX13_init_13 : decode cX13_init 13 = .ok (.bipush 6, 2) := dk_16 6 (dk_at dksX13_init_0 13 rfl rfl)
theorem dX13_init_15 : decode cX13_init 15 = .ok (.newarray .int, 2) := dk_188_10 (dk_at dksX13_init_0 15 rfl rfl)
theorem dX13_init_17 : decode cX13_init 17 = .ok (.putfield 15, 3) := dk_181 0 15 (dk_at dksX13_init_0 17 rfl rfl)
theorem dX13_init_20 : decode cX13_init 20 = .ok (.aload_n 0, 1) := dk_42 (dk_at dksX13_init_0 20 rfl rfl)
theorem dX13_init_21 : decode cX13_init 21 = .ok (.iload_n 1, 1) := dk_27 (dk_at dksX13_init_0 21 rfl rfl)
theorem dX13_init_22 : decode cX13_init 22 = .ok (.putfield 18, 3) := dk_181 0 18 (dk_at dksX13_init_1 0 rfl rfl)
theorem dX13_init_25 : decode cX13_init 25 = .ok (.aload_n 0, 1) := dk_42 (dk_at dksX13_init_1 3 rfl rfl)
theorem dX13_init_26 : decode cX13_init 26 = .ok (.iload_n 2, 1) := dk_28 (dk_at dksX13_init_1 4 rfl rfl)
theorem dX13_init_27 : decode cX13_init 27 = .ok (.putfield 22, 3) := dk_181 0 22 (dk_at dksX13_init_1 5 rfl rfl)
theorem dX13_init_30 : decode cX13_init 30 = .ok (.aload_n 0, 1) := dk_42 (dk_at dksX13_init_1 8 rfl rfl)
theorem dX13_init_31 : decode cX13_init 31 = .ok (.iload_n 3, 1) := dk_29 (dk_at dksX13_init_1 9 rfl rfl)
theorem dX13_init_32 : decode cX13_init 32 = .ok (.putfield 25, 3) := dk_181 0 25 (dk_at dksX13_init_1 10 rfl rfl)
theorem dX13_init_35 : decode cX13_init 35 = .ok (.aload_n 0, 1) := dk_42 (dk_at dksX13_init_1 13 rfl rfl)
theorem dX13_init_36 : decode cX13_init 36 = .ok (.iload 4, 2) := dk_21 4 (dk_at dksX13_init_1 14 rfl rfl)
theorem dX13_init_38 : decode cX13_init 38 = .ok (.putfield 28, 3) := dk_181 0 28 (dk_at dksX13_init_1 16 rfl rfl)
theorem dX13_init_41 : decode cX13_init 41 = .ok (.aload_n 0, 1) := dk_42 (dk_at dksX13_init_1 19 rfl rfl)
theorem dX13_init_42 : decode cX13_init 42 = .ok (.iload 5, 2) := dk_21 5 (dk_at dksX13_init_1 20 rfl rfl)
theorem dX13_init_44 : decode cX13_init 44 = .ok (.putfield 31, 3) := dk_181 0 31 (dk_at dksX13_init_2 0 rfl rfl)
theorem dX13_init_47 : decode cX13_init 47 = .ok (.aload_n 0, 1) := dk_42 (dk_at dksX13_init_2 3 rfl rfl)
theorem dX13_init_48 : decode cX13_init 48 = .ok (.iload 6, 2) := dk_21 6 (dk_at dksX13_init_2 4 rfl rfl)
theorem dX13_init_50 : decode cX13_init 50 = .ok (.putfield 34, 3) := dk_181 0 34 (dk_at dksX13_init_2 6 rfl rfl)
theorem dX13_init_53 : decode cX13_init 53 = .ok (.return_, 1) := dk_177 (dk_at dksX13_init_2 9 rfl rfl)
abbrev cX13_adds : ByteArray := prog_12_method_2_code
def yX13_adds : MethodName := ⟨RX13, "adds", "(II)V"⟩
def dkwX13_adds_2 : List UInt8 := [167, 255, 222, 42, 89, 180, 0, 37, 4, 96, 181, 0, 37, 177]
abbrev dktX13_adds_2 : List UInt8 := dkwX13_adds_2 ++ []
def dkwX13_adds_1 : List UInt8 := [184, 0, 40, 153, 0, 18, 42, 180, 0, 15, 29, 92, 46, 4, 42, 180, 0, 37, 120, 128, 79, 132, 3, 1]
abbrev dktX13_adds_1 : List UInt8 := dkwX13_adds_1 ++ dktX13_adds_2
def dkwX13_adds_0 : List UInt8 := [42, 180, 0, 9, 42, 180, 0, 37, 27, 79, 3, 62, 29, 42, 180, 0, 37, 162, 0, 32, 28, 29]
abbrev dktX13_adds_0 : List UInt8 := dkwX13_adds_0 ++ dktX13_adds_1
theorem dksX13_adds_0 : cX13_adds.data.toList.drop 0 = dktX13_adds_0 := by decide +kernel
theorem dksX13_adds_1 : cX13_adds.data.toList.drop 22 = dktX13_adds_1 := dk_seg dksX13_adds_0 22 rfl rfl
theorem dksX13_adds_2 : cX13_adds.data.toList.drop 46 = dktX13_adds_2 := dk_seg dksX13_adds_1 24 rfl rfl
theorem dX13_adds_0 : decode cX13_adds 0 = .ok (.aload_n 0, 1) := dk_42 (dk_at dksX13_adds_0 0 rfl rfl)
theorem dX13_adds_1 : decode cX13_adds 1 = .ok (.getfield 9, 3) := dk_180 0 9 (dk_at dksX13_adds_0 1 rfl rfl)
theorem dX13_adds_4 : decode cX13_adds 4 = .ok (.aload_n 0, 1) := dk_42 (dk_at dksX13_adds_0 4 rfl rfl)
theorem dX13_adds_5 : decode cX13_adds 5 = .ok (.getfield 37, 3) := dk_180 0 37 (dk_at dksX13_adds_0 5 rfl rfl)
theorem dX13_adds_8 : decode cX13_adds 8 = .ok (.iload_n 1, 1) := dk_27 (dk_at dksX13_adds_0 8 rfl rfl)
theorem dX13_adds_9 : decode cX13_adds 9 = .ok (.iastore, 1) := dk_79 (dk_at dksX13_adds_0 9 rfl rfl)
theorem dX13_adds_10 : decode cX13_adds 10 = .ok (.iconst 0, 1) := dk_3 (dk_at dksX13_adds_0 10 rfl rfl)
theorem dX13_adds_11 : decode cX13_adds 11 = .ok (.istore_n 3, 1) := dk_62 (dk_at dksX13_adds_0 11 rfl rfl)
theorem dX13_adds_12 : decode cX13_adds 12 = .ok (.iload_n 3, 1) := dk_29 (dk_at dksX13_adds_0 12 rfl rfl)
theorem dX13_adds_13 : decode cX13_adds 13 = .ok (.aload_n 0, 1) := dk_42 (dk_at dksX13_adds_0 13 rfl rfl)
theorem dX13_adds_14 : decode cX13_adds 14 = .ok (.getfield 37, 3) := dk_180 0 37 (dk_at dksX13_adds_0 14 rfl rfl)
theorem dX13_adds_17 : decode cX13_adds 17 = .ok (.if_icmp .ge 32, 3) := dk_162 0 32 (dk_at dksX13_adds_0 17 rfl rfl)
theorem dX13_adds_20 : decode cX13_adds 20 = .ok (.iload_n 2, 1) := dk_28 (dk_at dksX13_adds_0 20 rfl rfl)
theorem dX13_adds_21 : decode cX13_adds 21 = .ok (.iload_n 3, 1) := dk_29 (dk_at dksX13_adds_0 21 rfl rfl)
theorem dX13_adds_22 : decode cX13_adds 22 = .ok (.invokestatic 40, 3) := dk_184 0 40 (dk_at dksX13_adds_1 0 rfl rfl)
theorem dX13_adds_25 : decode cX13_adds 25 = .ok (.ifCond .eq 18, 3) := dk_153 0 18 (dk_at dksX13_adds_1 3 rfl rfl)
theorem dX13_adds_28 : decode cX13_adds 28 = .ok (.aload_n 0, 1) := dk_42 (dk_at dksX13_adds_1 6 rfl rfl)
theorem dX13_adds_29 : decode cX13_adds 29 = .ok (.getfield 15, 3) := dk_180 0 15 (dk_at dksX13_adds_1 7 rfl rfl)
theorem dX13_adds_32 : decode cX13_adds 32 = .ok (.iload_n 3, 1) := dk_29 (dk_at dksX13_adds_1 10 rfl rfl)
theorem dX13_adds_33 : decode cX13_adds 33 = .ok (.dup2, 1) := dk_92 (dk_at dksX13_adds_1 11 rfl rfl)
theorem dX13_adds_34 : decode cX13_adds 34 = .ok (.iaload, 1) := dk_46 (dk_at dksX13_adds_1 12 rfl rfl)
theorem dX13_adds_35 : decode cX13_adds 35 = .ok (.iconst 1, 1) := dk_4 (dk_at dksX13_adds_1 13 rfl rfl)
theorem dX13_adds_36 : decode cX13_adds 36 = .ok (.aload_n 0, 1) := dk_42 (dk_at dksX13_adds_1 14 rfl rfl)
theorem dX13_adds_37 : decode cX13_adds 37 = .ok (.getfield 37, 3) := dk_180 0 37 (dk_at dksX13_adds_1 15 rfl rfl)
theorem dX13_adds_40 : decode cX13_adds 40 = .ok (.ishl, 1) := dk_120 (dk_at dksX13_adds_1 18 rfl rfl)
theorem dX13_adds_41 : decode cX13_adds 41 = .ok (.ior, 1) := dk_128 (dk_at dksX13_adds_1 19 rfl rfl)
theorem dX13_adds_42 : decode cX13_adds 42 = .ok (.iastore, 1) := dk_79 (dk_at dksX13_adds_1 20 rfl rfl)
theorem dX13_adds_43 : decode cX13_adds 43 = .ok (.iinc 3 1, 3) := dk_132 3 1 (dk_at dksX13_adds_1 21 rfl rfl)
theorem dX13_adds_46 : decode cX13_adds 46 = .ok (.goto (-34), 3) := dk_167 255 222 (dk_at dksX13_adds_2 0 rfl rfl)
theorem dX13_adds_49 : decode cX13_adds 49 = .ok (.aload_n 0, 1) := dk_42 (dk_at dksX13_adds_2 3 rfl rfl)
theorem dX13_adds_50 : decode cX13_adds 50 = .ok (.dup, 1) := dk_89 (dk_at dksX13_adds_2 4 rfl rfl)
theorem dX13_adds_51 : decode cX13_adds 51 = .ok (.getfield 37, 3) := dk_180 0 37 (dk_at dksX13_adds_2 5 rfl rfl)
theorem dX13_adds_54 : decode cX13_adds 54 = .ok (.iconst 1, 1) := dk_4 (dk_at dksX13_adds_2 8 rfl rfl)
theorem dX13_adds_55 : decode cX13_adds 55 = .ok (.iadd, 1) := dk_96 (dk_at dksX13_adds_2 9 rfl rfl)
theorem dX13_adds_56 : decode cX13_adds 56 = .ok (.putfield 37, 3) := dk_181 0 37 (dk_at dksX13_adds_2 10 rfl rfl)
theorem dX13_adds_59 : decode cX13_adds 59 = .ok (.return_, 1) := dk_177 (dk_at dksX13_adds_2 13 rfl rfl)
abbrev cX13_cost : ByteArray := prog_12_method_4_code
def yX13_cost : MethodName := ⟨RX13, "cost", "(IZ)I"⟩
def dkwX13_cost_3 : List UInt8 := [167, 255, 191, 42, 180, 0, 9, 27, 46, 3, 29, 184, 0, 54, 96, 172]
abbrev dktX13_cost_3 : List UInt8 := dkwX13_cost_3 ++ []
def dkwX13_cost_2 : List UInt8 := [153, 0, 12, 21, 5, 29, 164, 0, 15, 167, 0, 9, 21, 5, 29, 162, 0, 6, 21, 5, 62, 132, 4, 1]
abbrev dktX13_cost_2 : List UInt8 := dkwX13_cost_2 ++ dktX13_cost_3
def dkwX13_cost_1 : List UInt8 := [184, 0, 40, 154, 0, 6, 167, 0, 39, 42, 21, 4, 28, 182, 0, 50, 54, 5, 29, 2, 159, 0, 22, 28]
abbrev dktX13_cost_1 : List UInt8 := dkwX13_cost_1 ++ dktX13_cost_2
def dkwX13_cost_0 : List UInt8 := [2, 62, 27, 4, 96, 54, 4, 21, 4, 42, 180, 0, 37, 162, 0, 62, 42, 180, 0, 15, 27, 46, 21, 4]
abbrev dktX13_cost_0 : List UInt8 := dkwX13_cost_0 ++ dktX13_cost_1
theorem dksX13_cost_0 : cX13_cost.data.toList.drop 0 = dktX13_cost_0 := by decide +kernel
theorem dksX13_cost_1 : cX13_cost.data.toList.drop 24 = dktX13_cost_1 := dk_seg dksX13_cost_0 24 rfl rfl
theorem dksX13_cost_2 : cX13_cost.data.toList.drop 48 = dktX13_cost_2 := dk_seg dksX13_cost_1 24 rfl rfl
theorem dksX13_cost_3 : cX13_cost.data.toList.drop 72 = dktX13_cost_3 := dk_seg dksX13_cost_2 24 rfl rfl
theorem dX13_cost_0 : decode cX13_cost 0 = .ok (.iconst (-1), 1) := dk_2 (dk_at dksX13_cost_0 0 rfl rfl)
theorem dX13_cost_1 : decode cX13_cost 1 = .ok (.istore_n 3, 1) := dk_62 (dk_at dksX13_cost_0 1 rfl rfl)
theorem dX13_cost_2 : decode cX13_cost 2 = .ok (.iload_n 1, 1) := dk_27 (dk_at dksX13_cost_0 2 rfl rfl)
theorem dX13_cost_3 : decode cX13_cost 3 = .ok (.iconst 1, 1) := dk_4 (dk_at dksX13_cost_0 3 rfl rfl)
theorem dX13_cost_4 : decode cX13_cost 4 = .ok (.iadd, 1) := dk_96 (dk_at dksX13_cost_0 4 rfl rfl)
theorem dX13_cost_5 : decode cX13_cost 5 = .ok (.istore 4, 2) := dk_54 4 (dk_at dksX13_cost_0 5 rfl rfl)
theorem dX13_cost_7 : decode cX13_cost 7 = .ok (.iload 4, 2) := dk_21 4 (dk_at dksX13_cost_0 7 rfl rfl)
theorem dX13_cost_9 : decode cX13_cost 9 = .ok (.aload_n 0, 1) := dk_42 (dk_at dksX13_cost_0 9 rfl rfl)
theorem dX13_cost_10 : decode cX13_cost 10 = .ok (.getfield 37, 3) := dk_180 0 37 (dk_at dksX13_cost_0 10 rfl rfl)
theorem dX13_cost_13 : decode cX13_cost 13 = .ok (.if_icmp .ge 62, 3) := dk_162 0 62 (dk_at dksX13_cost_0 13 rfl rfl)
theorem dX13_cost_16 : decode cX13_cost 16 = .ok (.aload_n 0, 1) := dk_42 (dk_at dksX13_cost_0 16 rfl rfl)
theorem dX13_cost_17 : decode cX13_cost 17 = .ok (.getfield 15, 3) := dk_180 0 15 (dk_at dksX13_cost_0 17 rfl rfl)
theorem dX13_cost_20 : decode cX13_cost 20 = .ok (.iload_n 1, 1) := dk_27 (dk_at dksX13_cost_0 20 rfl rfl)
theorem dX13_cost_21 : decode cX13_cost 21 = .ok (.iaload, 1) := dk_46 (dk_at dksX13_cost_0 21 rfl rfl)
theorem dX13_cost_22 : decode cX13_cost 22 = .ok (.iload 4, 2) := dk_21 4 (dk_at dksX13_cost_0 22 rfl rfl)
theorem dX13_cost_24 : decode cX13_cost 24 = .ok (.invokestatic 40, 3) := dk_184 0 40 (dk_at dksX13_cost_1 0 rfl rfl)
theorem dX13_cost_27 : decode cX13_cost 27 = .ok (.ifCond .ne 6, 3) := dk_154 0 6 (dk_at dksX13_cost_1 3 rfl rfl)
theorem dX13_cost_30 : decode cX13_cost 30 = .ok (.goto 39, 3) := dk_167 0 39 (dk_at dksX13_cost_1 6 rfl rfl)
theorem dX13_cost_33 : decode cX13_cost 33 = .ok (.aload_n 0, 1) := dk_42 (dk_at dksX13_cost_1 9 rfl rfl)
theorem dX13_cost_34 : decode cX13_cost 34 = .ok (.iload 4, 2) := dk_21 4 (dk_at dksX13_cost_1 10 rfl rfl)
theorem dX13_cost_36 : decode cX13_cost 36 = .ok (.iload_n 2, 1) := dk_28 (dk_at dksX13_cost_1 12 rfl rfl)
theorem dX13_cost_37 : decode cX13_cost 37 = .ok (.invokevirtual 50, 3) := dk_182 0 50 (dk_at dksX13_cost_1 13 rfl rfl)
theorem dX13_cost_40 : decode cX13_cost 40 = .ok (.istore 5, 2) := dk_54 5 (dk_at dksX13_cost_1 16 rfl rfl)
theorem dX13_cost_42 : decode cX13_cost 42 = .ok (.iload_n 3, 1) := dk_29 (dk_at dksX13_cost_1 18 rfl rfl)
theorem dX13_cost_43 : decode cX13_cost 43 = .ok (.iconst (-1), 1) := dk_2 (dk_at dksX13_cost_1 19 rfl rfl)
theorem dX13_cost_44 : decode cX13_cost 44 = .ok (.if_icmp .eq 22, 3) := dk_159 0 22 (dk_at dksX13_cost_1 20 rfl rfl)
theorem dX13_cost_47 : decode cX13_cost 47 = .ok (.iload_n 2, 1) := dk_28 (dk_at dksX13_cost_1 23 rfl rfl)
theorem dX13_cost_48 : decode cX13_cost 48 = .ok (.ifCond .eq 12, 3) := dk_153 0 12 (dk_at dksX13_cost_2 0 rfl rfl)
theorem dX13_cost_51 : decode cX13_cost 51 = .ok (.iload 5, 2) := dk_21 5 (dk_at dksX13_cost_2 3 rfl rfl)
theorem dX13_cost_53 : decode cX13_cost 53 = .ok (.iload_n 3, 1) := dk_29 (dk_at dksX13_cost_2 5 rfl rfl)
theorem dX13_cost_54 : decode cX13_cost 54 = .ok (.if_icmp .le 15, 3) := dk_164 0 15 (dk_at dksX13_cost_2 6 rfl rfl)
theorem dX13_cost_57 : decode cX13_cost 57 = .ok (.goto 9, 3) := dk_167 0 9 (dk_at dksX13_cost_2 9 rfl rfl)
theorem dX13_cost_60 : decode cX13_cost 60 = .ok (.iload 5, 2) := dk_21 5 (dk_at dksX13_cost_2 12 rfl rfl)
theorem dX13_cost_62 : decode cX13_cost 62 = .ok (.iload_n 3, 1) := dk_29 (dk_at dksX13_cost_2 14 rfl rfl)
theorem dX13_cost_63 : decode cX13_cost 63 = .ok (.if_icmp .ge 6, 3) := dk_162 0 6 (dk_at dksX13_cost_2 15 rfl rfl)
theorem dX13_cost_66 : decode cX13_cost 66 = .ok (.iload 5, 2) := dk_21 5 (dk_at dksX13_cost_2 18 rfl rfl)
theorem dX13_cost_68 : decode cX13_cost 68 = .ok (.istore_n 3, 1) := dk_62 (dk_at dksX13_cost_2 20 rfl rfl)
theorem dX13_cost_69 : decode cX13_cost 69 = .ok (.iinc 4 1, 3) := dk_132 4 1 (dk_at dksX13_cost_2 21 rfl rfl)
theorem dX13_cost_72 : decode cX13_cost 72 = .ok (.goto (-65), 3) := dk_167 255 191 (dk_at dksX13_cost_3 0 rfl rfl)
theorem dX13_cost_75 : decode cX13_cost 75 = .ok (.aload_n 0, 1) := dk_42 (dk_at dksX13_cost_3 3 rfl rfl)
theorem dX13_cost_76 : decode cX13_cost 76 = .ok (.getfield 9, 3) := dk_180 0 9 (dk_at dksX13_cost_3 4 rfl rfl)
theorem dX13_cost_79 : decode cX13_cost 79 = .ok (.iload_n 1, 1) := dk_27 (dk_at dksX13_cost_3 7 rfl rfl)
theorem dX13_cost_80 : decode cX13_cost 80 = .ok (.iaload, 1) := dk_46 (dk_at dksX13_cost_3 8 rfl rfl)
theorem dX13_cost_81 : decode cX13_cost 81 = .ok (.iconst 0, 1) := dk_3 (dk_at dksX13_cost_3 9 rfl rfl)
theorem dX13_cost_82 : decode cX13_cost 82 = .ok (.iload_n 3, 1) := dk_29 (dk_at dksX13_cost_3 10 rfl rfl)
theorem dX13_cost_83 : decode cX13_cost 83 = .ok (.invokestatic 54, 3) := dk_184 0 54 (dk_at dksX13_cost_3 11 rfl rfl)
theorem dX13_cost_86 : decode cX13_cost 86 = .ok (.iadd, 1) := dk_96 (dk_at dksX13_cost_3 14 rfl rfl)
theorem dX13_cost_87 : decode cX13_cost 87 = .ok (.ireturn, 1) := dk_172 (dk_at dksX13_cost_3 15 rfl rfl)
abbrev cX13_ways : ByteArray := prog_12_method_5_code
def yX13_ways : MethodName := ⟨RX13, "ways", "(I)I"⟩
def dkwX13_ways_2 : List UInt8 := [167, 0, 4, 3, 96, 61, 132, 3, 1, 167, 255, 220, 28, 172]
abbrev dktX13_ways_2 : List UInt8 := dkwX13_ways_2 ++ []
def dkwX13_ways_1 : List UInt8 := [162, 0, 34, 28, 42, 180, 0, 15, 27, 46, 29, 184, 0, 40, 153, 0, 11, 42, 29, 182, 0, 60]
abbrev dktX13_ways_1 : List UInt8 := dkwX13_ways_1 ++ dktX13_ways_2
def dkwX13_ways_0 : List UInt8 := [42, 180, 0, 15, 27, 46, 154, 0, 5, 4, 172, 3, 61, 27, 4, 96, 62, 29, 42, 180, 0, 37]
abbrev dktX13_ways_0 : List UInt8 := dkwX13_ways_0 ++ dktX13_ways_1
theorem dksX13_ways_0 : cX13_ways.data.toList.drop 0 = dktX13_ways_0 := by decide +kernel
theorem dksX13_ways_1 : cX13_ways.data.toList.drop 22 = dktX13_ways_1 := dk_seg dksX13_ways_0 22 rfl rfl
theorem dksX13_ways_2 : cX13_ways.data.toList.drop 44 = dktX13_ways_2 := dk_seg dksX13_ways_1 22 rfl rfl
theorem dX13_ways_0 : decode cX13_ways 0 = .ok (.aload_n 0, 1) := dk_42 (dk_at dksX13_ways_0 0 rfl rfl)
theorem dX13_ways_1 : decode cX13_ways 1 = .ok (.getfield 15, 3) := dk_180 0 15 (dk_at dksX13_ways_0 1 rfl rfl)
theorem dX13_ways_4 : decode cX13_ways 4 = .ok (.iload_n 1, 1) := dk_27 (dk_at dksX13_ways_0 4 rfl rfl)
theorem dX13_ways_5 : decode cX13_ways 5 = .ok (.iaload, 1) := dk_46 (dk_at dksX13_ways_0 5 rfl rfl)
theorem dX13_ways_6 : decode cX13_ways 6 = .ok (.ifCond .ne 5, 3) := dk_154 0 5 (dk_at dksX13_ways_0 6 rfl rfl)
theorem dX13_ways_9 : decode cX13_ways 9 = .ok (.iconst 1, 1) := dk_4 (dk_at dksX13_ways_0 9 rfl rfl)
theorem dX13_ways_10 : decode cX13_ways 10 = .ok (.ireturn, 1) := dk_172 (dk_at dksX13_ways_0 10 rfl rfl)
theorem dX13_ways_11 : decode cX13_ways 11 = .ok (.iconst 0, 1) := dk_3 (dk_at dksX13_ways_0 11 rfl rfl)
theorem dX13_ways_12 : decode cX13_ways 12 = .ok (.istore_n 2, 1) := dk_61 (dk_at dksX13_ways_0 12 rfl rfl)
theorem dX13_ways_13 : decode cX13_ways 13 = .ok (.iload_n 1, 1) := dk_27 (dk_at dksX13_ways_0 13 rfl rfl)
theorem dX13_ways_14 : decode cX13_ways 14 = .ok (.iconst 1, 1) := dk_4 (dk_at dksX13_ways_0 14 rfl rfl)
theorem dX13_ways_15 : decode cX13_ways 15 = .ok (.iadd, 1) := dk_96 (dk_at dksX13_ways_0 15 rfl rfl)
theorem dX13_ways_16 : decode cX13_ways 16 = .ok (.istore_n 3, 1) := dk_62 (dk_at dksX13_ways_0 16 rfl rfl)
theorem dX13_ways_17 : decode cX13_ways 17 = .ok (.iload_n 3, 1) := dk_29 (dk_at dksX13_ways_0 17 rfl rfl)
theorem dX13_ways_18 : decode cX13_ways 18 = .ok (.aload_n 0, 1) := dk_42 (dk_at dksX13_ways_0 18 rfl rfl)
theorem dX13_ways_19 : decode cX13_ways 19 = .ok (.getfield 37, 3) := dk_180 0 37 (dk_at dksX13_ways_0 19 rfl rfl)
theorem dX13_ways_22 : decode cX13_ways 22 = .ok (.if_icmp .ge 34, 3) := dk_162 0 34 (dk_at dksX13_ways_1 0 rfl rfl)
theorem dX13_ways_25 : decode cX13_ways 25 = .ok (.iload_n 2, 1) := dk_28 (dk_at dksX13_ways_1 3 rfl rfl)
theorem dX13_ways_26 : decode cX13_ways 26 = .ok (.aload_n 0, 1) := dk_42 (dk_at dksX13_ways_1 4 rfl rfl)
theorem dX13_ways_27 : decode cX13_ways 27 = .ok (.getfield 15, 3) := dk_180 0 15 (dk_at dksX13_ways_1 5 rfl rfl)
theorem dX13_ways_30 : decode cX13_ways 30 = .ok (.iload_n 1, 1) := dk_27 (dk_at dksX13_ways_1 8 rfl rfl)
theorem dX13_ways_31 : decode cX13_ways 31 = .ok (.iaload, 1) := dk_46 (dk_at dksX13_ways_1 9 rfl rfl)
theorem dX13_ways_32 : decode cX13_ways 32 = .ok (.iload_n 3, 1) := dk_29 (dk_at dksX13_ways_1 10 rfl rfl)
theorem dX13_ways_33 : decode cX13_ways 33 = .ok (.invokestatic 40, 3) := dk_184 0 40 (dk_at dksX13_ways_1 11 rfl rfl)
theorem dX13_ways_36 : decode cX13_ways 36 = .ok (.ifCond .eq 11, 3) := dk_153 0 11 (dk_at dksX13_ways_1 14 rfl rfl)
theorem dX13_ways_39 : decode cX13_ways 39 = .ok (.aload_n 0, 1) := dk_42 (dk_at dksX13_ways_1 17 rfl rfl)
theorem dX13_ways_40 : decode cX13_ways 40 = .ok (.iload_n 3, 1) := dk_29 (dk_at dksX13_ways_1 18 rfl rfl)
theorem dX13_ways_41 : decode cX13_ways 41 = .ok (.invokevirtual 60, 3) := dk_182 0 60 (dk_at dksX13_ways_1 19 rfl rfl)
theorem dX13_ways_44 : decode cX13_ways 44 = .ok (.goto 4, 3) := dk_167 0 4 (dk_at dksX13_ways_2 0 rfl rfl)
theorem dX13_ways_47 : decode cX13_ways 47 = .ok (.iconst 0, 1) := dk_3 (dk_at dksX13_ways_2 3 rfl rfl)
theorem dX13_ways_48 : decode cX13_ways 48 = .ok (.iadd, 1) := dk_96 (dk_at dksX13_ways_2 4 rfl rfl)
theorem dX13_ways_49 : decode cX13_ways 49 = .ok (.istore_n 2, 1) := dk_61 (dk_at dksX13_ways_2 5 rfl rfl)
theorem dX13_ways_50 : decode cX13_ways 50 = .ok (.iinc 3 1, 3) := dk_132 3 1 (dk_at dksX13_ways_2 6 rfl rfl)
theorem dX13_ways_53 : decode cX13_ways 53 = .ok (.goto (-36), 3) := dk_167 255 220 (dk_at dksX13_ways_2 9 rfl rfl)
theorem dX13_ways_56 : decode cX13_ways 56 = .ok (.iload_n 2, 1) := dk_28 (dk_at dksX13_ways_2 12 rfl rfl)
theorem dX13_ways_57 : decode cX13_ways 57 = .ok (.ireturn, 1) := dk_172 (dk_at dksX13_ways_2 13 rfl rfl)
abbrev cX13_longest : ByteArray := prog_12_method_6_code
def yX13_longest : MethodName := ⟨RX13, "longest", "()I"⟩
def dkwX13_longest_0 : List UInt8 := [42, 3, 4, 182, 0, 50, 172]
abbrev dktX13_longest_0 : List UInt8 := dkwX13_longest_0 ++ []
theorem dksX13_longest_0 : cX13_longest.data.toList.drop 0 = dktX13_longest_0 := by decide +kernel
theorem dX13_longest_0 : decode cX13_longest 0 = .ok (.aload_n 0, 1) := dk_42 (dk_at dksX13_longest_0 0 rfl rfl)
theorem dX13_longest_1 : decode cX13_longest 1 = .ok (.iconst 0, 1) := dk_3 (dk_at dksX13_longest_0 1 rfl rfl)
theorem dX13_longest_2 : decode cX13_longest 2 = .ok (.iconst 1, 1) := dk_4 (dk_at dksX13_longest_0 2 rfl rfl)
theorem dX13_longest_3 : decode cX13_longest 3 = .ok (.invokevirtual 50, 3) := dk_182 0 50 (dk_at dksX13_longest_0 3 rfl rfl)
theorem dX13_longest_6 : decode cX13_longest 6 = .ok (.ireturn, 1) := dk_172 (dk_at dksX13_longest_0 6 rfl rfl)
abbrev cX13_shortest : ByteArray := prog_12_method_7_code
def yX13_shortest : MethodName := ⟨RX13, "shortest", "()I"⟩
def dkwX13_shortest_0 : List UInt8 := [42, 3, 3, 182, 0, 50, 172]
abbrev dktX13_shortest_0 : List UInt8 := dkwX13_shortest_0 ++ []
theorem dksX13_shortest_0 : cX13_shortest.data.toList.drop 0 = dktX13_shortest_0 := by decide +kernel
theorem dX13_shortest_0 : decode cX13_shortest 0 = .ok (.aload_n 0, 1) := dk_42 (dk_at dksX13_shortest_0 0 rfl rfl)
theorem dX13_shortest_1 : decode cX13_shortest 1 = .ok (.iconst 0, 1) := dk_3 (dk_at dksX13_shortest_0 1 rfl rfl)
theorem dX13_shortest_2 : decode cX13_shortest 2 = .ok (.iconst 0, 1) := dk_3 (dk_at dksX13_shortest_0 2 rfl rfl)
theorem dX13_shortest_3 : decode cX13_shortest 3 = .ok (.invokevirtual 50, 3) := dk_182 0 50 (dk_at dksX13_shortest_0 3 rfl rfl)
theorem dX13_shortest_6 : decode cX13_shortest 6 = .ok (.ireturn, 1) := dk_172 (dk_at dksX13_shortest_0 6 rfl rfl)
abbrev cX13_next : ByteArray := prog_12_method_3_code
def yX13_next : MethodName := ⟨RX13, "next", "(II)I"⟩
def dkwX13_next_2 : List UInt8 := [132, 5, 1, 167, 255, 231, 21, 5, 172]
abbrev dktX13_next_2 : List UInt8 := dkwX13_next_2 ++ []
def dkwX13_next_1 : List UInt8 := [54, 5, 42, 180, 0, 15, 27, 46, 21, 5, 184, 0, 40, 153, 0, 11, 21, 4, 132, 4, 255, 158, 0, 9]
abbrev dktX13_next_1 : List UInt8 := dkwX13_next_1 ++ dktX13_next_2
def dkwX13_next_0 : List UInt8 := [42, 180, 0, 15, 27, 46, 184, 0, 44, 62, 29, 154, 0, 5, 2, 172, 28, 29, 112, 54, 4, 27, 4, 96]
abbrev dktX13_next_0 : List UInt8 := dkwX13_next_0 ++ dktX13_next_1
theorem dksX13_next_0 : cX13_next.data.toList.drop 0 = dktX13_next_0 := by decide +kernel
theorem dksX13_next_1 : cX13_next.data.toList.drop 24 = dktX13_next_1 := dk_seg dksX13_next_0 24 rfl rfl
theorem dksX13_next_2 : cX13_next.data.toList.drop 48 = dktX13_next_2 := dk_seg dksX13_next_1 24 rfl rfl
theorem dX13_next_0 : decode cX13_next 0 = .ok (.aload_n 0, 1) := dk_42 (dk_at dksX13_next_0 0 rfl rfl)
theorem dX13_next_1 : decode cX13_next 1 = .ok (.getfield 15, 3) := dk_180 0 15 (dk_at dksX13_next_0 1 rfl rfl)
theorem dX13_next_4 : decode cX13_next 4 = .ok (.iload_n 1, 1) := dk_27 (dk_at dksX13_next_0 4 rfl rfl)
theorem dX13_next_5 : decode cX13_next 5 = .ok (.iaload, 1) := dk_46 (dk_at dksX13_next_0 5 rfl rfl)
theorem dX13_next_6 : decode cX13_next 6 = .ok (.invokestatic 44, 3) := dk_184 0 44 (dk_at dksX13_next_0 6 rfl rfl)
theorem dX13_next_9 : decode cX13_next 9 = .ok (.istore_n 3, 1) := dk_62 (dk_at dksX13_next_0 9 rfl rfl)
theorem dX13_next_10 : decode cX13_next 10 = .ok (.iload_n 3, 1) := dk_29 (dk_at dksX13_next_0 10 rfl rfl)
theorem dX13_next_11 : decode cX13_next 11 = .ok (.ifCond .ne 5, 3) := dk_154 0 5 (dk_at dksX13_next_0 11 rfl rfl)
theorem dX13_next_14 : decode cX13_next 14 = .ok (.iconst (-1), 1) := dk_2 (dk_at dksX13_next_0 14 rfl rfl)
theorem dX13_next_15 : decode cX13_next 15 = .ok (.ireturn, 1) := dk_172 (dk_at dksX13_next_0 15 rfl rfl)
theorem dX13_next_16 : decode cX13_next 16 = .ok (.iload_n 2, 1) := dk_28 (dk_at dksX13_next_0 16 rfl rfl)
theorem dX13_next_17 : decode cX13_next 17 = .ok (.iload_n 3, 1) := dk_29 (dk_at dksX13_next_0 17 rfl rfl)
theorem dX13_next_18 : decode cX13_next 18 = .ok (.irem, 1) := dk_112 (dk_at dksX13_next_0 18 rfl rfl)
theorem dX13_next_19 : decode cX13_next 19 = .ok (.istore 4, 2) := dk_54 4 (dk_at dksX13_next_0 19 rfl rfl)
theorem dX13_next_21 : decode cX13_next 21 = .ok (.iload_n 1, 1) := dk_27 (dk_at dksX13_next_0 21 rfl rfl)
theorem dX13_next_22 : decode cX13_next 22 = .ok (.iconst 1, 1) := dk_4 (dk_at dksX13_next_0 22 rfl rfl)
theorem dX13_next_23 : decode cX13_next 23 = .ok (.iadd, 1) := dk_96 (dk_at dksX13_next_0 23 rfl rfl)
theorem dX13_next_24 : decode cX13_next 24 = .ok (.istore 5, 2) := dk_54 5 (dk_at dksX13_next_1 0 rfl rfl)
theorem dX13_next_26 : decode cX13_next 26 = .ok (.aload_n 0, 1) := dk_42 (dk_at dksX13_next_1 2 rfl rfl)
theorem dX13_next_27 : decode cX13_next 27 = .ok (.getfield 15, 3) := dk_180 0 15 (dk_at dksX13_next_1 3 rfl rfl)
theorem dX13_next_30 : decode cX13_next 30 = .ok (.iload_n 1, 1) := dk_27 (dk_at dksX13_next_1 6 rfl rfl)
theorem dX13_next_31 : decode cX13_next 31 = .ok (.iaload, 1) := dk_46 (dk_at dksX13_next_1 7 rfl rfl)
theorem dX13_next_32 : decode cX13_next 32 = .ok (.iload 5, 2) := dk_21 5 (dk_at dksX13_next_1 8 rfl rfl)
theorem dX13_next_34 : decode cX13_next 34 = .ok (.invokestatic 40, 3) := dk_184 0 40 (dk_at dksX13_next_1 10 rfl rfl)
theorem dX13_next_37 : decode cX13_next 37 = .ok (.ifCond .eq 11, 3) := dk_153 0 11 (dk_at dksX13_next_1 13 rfl rfl)
theorem dX13_next_40 : decode cX13_next 40 = .ok (.iload 4, 2) := dk_21 4 (dk_at dksX13_next_1 16 rfl rfl)
theorem dX13_next_42 : decode cX13_next 42 = .ok (.iinc 4 (-1), 3) := dk_132 4 255 (dk_at dksX13_next_1 18 rfl rfl)
theorem dX13_next_45 : decode cX13_next 45 = .ok (.ifCond .le 9, 3) := dk_158 0 9 (dk_at dksX13_next_1 21 rfl rfl)
theorem dX13_next_48 : decode cX13_next 48 = .ok (.iinc 5 1, 3) := dk_132 5 1 (dk_at dksX13_next_2 0 rfl rfl)
theorem dX13_next_51 : decode cX13_next 51 = .ok (.goto (-25), 3) := dk_167 255 231 (dk_at dksX13_next_2 3 rfl rfl)
theorem dX13_next_54 : decode cX13_next 54 = .ok (.iload 5, 2) := dk_21 5 (dk_at dksX13_next_2 6 rfl rfl)
theorem dX13_next_56 : decode cX13_next 56 = .ok (.ireturn, 1) := dk_172 (dk_at dksX13_next_2 8 rfl rfl)
theorem q162 : (Jvm.Cond.initialized "WatchStack$Task") ∈ lw_all := lw_g (lw_at lw_m1 26 rfl) rfl
theorem q811 : (Jvm.Cond.instantiable "WatchStack$Task" (9 : Nat)) ∈ lw_all := lw_g (lw_at lw_m3 195 rfl) rfl
theorem q814 : (Jvm.Cond.instanceMethod ({ cls := "WatchStack$Task", name := "<init>", desc := "(IIIIII)V" } : Jvm.MethodName)) ∈ lw_all := lw_g (lw_at lw_m3 198 rfl) rfl
theorem q815 : (Jvm.Cond.code ({ cls := "WatchStack$Task", name := "<init>", desc := "(IIIIII)V" } : Jvm.MethodName) prog_12_method_1_code (7 : Nat) (Option.none : Option Jvm.ClassFile.FieldType)) ∈ lw_all := lw_g (lw_at lw_m3 199 rfl) rfl
theorem q816 : (Jvm.Cond.methodLink "WatchStack$Task" (3 : Nat) ({ cls := "java/lang/Object", name := "<init>", desc := "()V" } : Jvm.MethodName)) ∈ lw_all := lw_g (lw_at lw_m3 200 rfl) rfl
theorem q817 : (Jvm.Cond.fieldLink "WatchStack$Task" (18 : Nat) "WatchStack$Task" "watcher" "I") ∈ lw_all := lw_g (lw_at lw_m3 201 rfl) rfl
theorem q820 : (Jvm.Cond.fieldLink "WatchStack$Task" (22 : Nat) "WatchStack$Task" "period" "I") ∈ lw_all := lw_g (lw_at lw_m3 204 rfl) rfl
theorem q823 : (Jvm.Cond.fieldLink "WatchStack$Task" (25 : Nat) "WatchStack$Task" "open" "I") ∈ lw_all := lw_g (lw_at lw_m3 207 rfl) rfl
theorem q825 : (Jvm.Cond.fieldLink "WatchStack$Task" (28 : Nat) "WatchStack$Task" "close" "I") ∈ lw_all := lw_g (lw_at lw_m3 209 rfl) rfl
theorem q827 : (Jvm.Cond.fieldLink "WatchStack$Task" (31 : Nat) "WatchStack$Task" "least" "I") ∈ lw_all := lw_g (lw_at lw_m3 211 rfl) rfl
theorem q829 : (Jvm.Cond.fieldLink "WatchStack$Task" (34 : Nat) "WatchStack$Task" "most" "I") ∈ lw_all := lw_g (lw_at lw_m3 213 rfl) rfl
theorem q831 : (Jvm.Cond.fieldLink "WatchStack$Task" (9 : Nat) "WatchStack$Task" "units" "[I") ∈ lw_all := lw_g (lw_at lw_m3 215 rfl) rfl
theorem q833 : (Jvm.Cond.fieldLink "WatchStack$Task" (15 : Nat) "WatchStack$Task" "behind" "[I") ∈ lw_all := lw_g (lw_at lw_m3 217 rfl) rfl
theorem q835 : (Jvm.Cond.fieldLink "WatchStack$Task" (37 : Nat) "WatchStack$Task" "nodes" "I") ∈ lw_all := lw_g (lw_at lw_m3 219 rfl) rfl
theorem q838 : (Jvm.Cond.laysFinal "WatchStack$Task" "WatchStack$Task" "watcher" "I") ∈ lw_all := lw_g (lw_at lw_m3 222 rfl) rfl
theorem q839 : (Jvm.Cond.soleField "WatchStack$Task" "watcher") ∈ lw_all := lw_g (lw_at lw_m3 223 rfl) rfl
theorem q840 : (Jvm.Cond.laysFinal "WatchStack$Task" "WatchStack$Task" "period" "I") ∈ lw_all := lw_g (lw_at lw_m3 224 rfl) rfl
theorem q841 : (Jvm.Cond.soleField "WatchStack$Task" "period") ∈ lw_all := lw_g (lw_at lw_m3 225 rfl) rfl
theorem q842 : (Jvm.Cond.laysFinal "WatchStack$Task" "WatchStack$Task" "open" "I") ∈ lw_all := lw_g (lw_at lw_m3 226 rfl) rfl
theorem q843 : (Jvm.Cond.soleField "WatchStack$Task" "open") ∈ lw_all := lw_g (lw_at lw_m3 227 rfl) rfl
theorem q844 : (Jvm.Cond.laysFinal "WatchStack$Task" "WatchStack$Task" "close" "I") ∈ lw_all := lw_g (lw_at lw_m3 228 rfl) rfl
theorem q845 : (Jvm.Cond.soleField "WatchStack$Task" "close") ∈ lw_all := lw_g (lw_at lw_m3 229 rfl) rfl
theorem q846 : (Jvm.Cond.laysFinal "WatchStack$Task" "WatchStack$Task" "least" "I") ∈ lw_all := lw_g (lw_at lw_m3 230 rfl) rfl
theorem q847 : (Jvm.Cond.soleField "WatchStack$Task" "least") ∈ lw_all := lw_g (lw_at lw_m3 231 rfl) rfl
theorem q848 : (Jvm.Cond.laysFinal "WatchStack$Task" "WatchStack$Task" "most" "I") ∈ lw_all := lw_g (lw_at lw_m3 232 rfl) rfl
theorem q849 : (Jvm.Cond.soleField "WatchStack$Task" "most") ∈ lw_all := lw_g (lw_at lw_m3 233 rfl) rfl
theorem q850 : (Jvm.Cond.laysFinal "WatchStack$Task" "WatchStack$Task" "units" "[I") ∈ lw_all := lw_g (lw_at lw_m3 234 rfl) rfl
theorem q851 : (Jvm.Cond.soleField "WatchStack$Task" "units") ∈ lw_all := lw_g (lw_at lw_m3 235 rfl) rfl
theorem q852 : (Jvm.Cond.laysFinal "WatchStack$Task" "WatchStack$Task" "behind" "[I") ∈ lw_all := lw_g (lw_at lw_m3 236 rfl) rfl
theorem q853 : (Jvm.Cond.soleField "WatchStack$Task" "behind") ∈ lw_all := lw_g (lw_at lw_m3 237 rfl) rfl
theorem q854 : (Jvm.Cond.lays "WatchStack$Task" "WatchStack$Task" "nodes" "I") ∈ lw_all := lw_g (lw_at lw_m3 238 rfl) rfl
theorem q855 : (Jvm.Cond.soleField "WatchStack$Task" "nodes") ∈ lw_all := lw_g (lw_at lw_m3 239 rfl) rfl
theorem q856 : (Jvm.Cond.superclass "WatchStack$Task" "java/lang/Object") ∈ lw_all := lw_g (lw_at lw_m4 0 rfl) rfl
theorem q901 : (Jvm.Cond.selects "WatchStack$Task" ({ cls := "java/lang/Object", name := "getClass", desc := "()Ljava/lang/Class;" } : Jvm.MethodName) ({ cls := "java/lang/Object", name := "getClass", desc := "()Ljava/lang/Class;" } : Jvm.MethodName)) ∈ lw_all := lw_g (lw_at lw_m4 45 rfl) rfl
theorem q935 : (Jvm.Cond.instanceMethod ({ cls := "WatchStack$Task", name := "adds", desc := "(II)V" } : Jvm.MethodName)) ∈ lw_all := lw_g (lw_at lw_m4 79 rfl) rfl
theorem q936 : (Jvm.Cond.selects "WatchStack$Task" ({ cls := "WatchStack$Task", name := "adds", desc := "(II)V" } : Jvm.MethodName) ({ cls := "WatchStack$Task", name := "adds", desc := "(II)V" } : Jvm.MethodName)) ∈ lw_all := lw_g (lw_at lw_m4 80 rfl) rfl
theorem q937 : (Jvm.Cond.code ({ cls := "WatchStack$Task", name := "adds", desc := "(II)V" } : Jvm.MethodName) prog_12_method_2_code (4 : Nat) (Option.none : Option Jvm.ClassFile.FieldType)) ∈ lw_all := lw_g (lw_at lw_m4 81 rfl) rfl
theorem q938 : (Jvm.Cond.methodLinkNest "WatchStack$Task" (40 : Nat) ({ cls := "WatchStack", name := "isOn", desc := "(II)Z" } : Jvm.MethodName) "WatchStack") ∈ lw_tbl := lw_at lw_m4 82 rfl
theorem q1011 : (Jvm.Cond.instanceMethod ({ cls := "WatchStack$Task", name := "cost", desc := "(IZ)I" } : Jvm.MethodName)) ∈ lw_all := lw_g (lw_at lw_m4 155 rfl) rfl
theorem q1012 : (Jvm.Cond.selects "WatchStack$Task" ({ cls := "WatchStack$Task", name := "cost", desc := "(IZ)I" } : Jvm.MethodName) ({ cls := "WatchStack$Task", name := "cost", desc := "(IZ)I" } : Jvm.MethodName)) ∈ lw_all := lw_g (lw_at lw_m4 156 rfl) rfl
theorem q1013 : (Jvm.Cond.code ({ cls := "WatchStack$Task", name := "cost", desc := "(IZ)I" } : Jvm.MethodName) prog_12_method_4_code (6 : Nat) (Option.some Jvm.ClassFile.FieldType.int)) ∈ lw_all := lw_g (lw_at lw_m4 157 rfl) rfl
theorem q1014 : (Jvm.Cond.methodLink "WatchStack$Task" (50 : Nat) ({ cls := "WatchStack$Task", name := "cost", desc := "(IZ)I" } : Jvm.MethodName)) ∈ lw_all := lw_g (lw_at lw_m4 158 rfl) rfl
theorem q1015 : (Jvm.Cond.methodLink "WatchStack$Task" (54 : Nat) ({ cls := "java/lang/Math", name := "max", desc := "(II)I" } : Jvm.MethodName)) ∈ lw_all := lw_g (lw_at lw_m4 159 rfl) rfl
theorem q1021 : (Jvm.Cond.instanceMethod ({ cls := "WatchStack$Task", name := "ways", desc := "(I)I" } : Jvm.MethodName)) ∈ lw_all := lw_g (lw_at lw_m4 165 rfl) rfl
theorem q1022 : (Jvm.Cond.selects "WatchStack$Task" ({ cls := "WatchStack$Task", name := "ways", desc := "(I)I" } : Jvm.MethodName) ({ cls := "WatchStack$Task", name := "ways", desc := "(I)I" } : Jvm.MethodName)) ∈ lw_all := lw_g (lw_at lw_m4 166 rfl) rfl
theorem q1023 : (Jvm.Cond.code ({ cls := "WatchStack$Task", name := "ways", desc := "(I)I" } : Jvm.MethodName) prog_12_method_5_code (4 : Nat) (Option.some Jvm.ClassFile.FieldType.int)) ∈ lw_all := lw_g (lw_at lw_m4 167 rfl) rfl
theorem q1024 : (Jvm.Cond.methodLink "WatchStack$Task" (60 : Nat) ({ cls := "WatchStack$Task", name := "ways", desc := "(I)I" } : Jvm.MethodName)) ∈ lw_all := lw_g (lw_at lw_m4 168 rfl) rfl
theorem q1041 : (Jvm.Cond.instanceMethod ({ cls := "WatchStack$Task", name := "longest", desc := "()I" } : Jvm.MethodName)) ∈ lw_all := lw_g (lw_at lw_m4 185 rfl) rfl
theorem q1042 : (Jvm.Cond.selects "WatchStack$Task" ({ cls := "WatchStack$Task", name := "longest", desc := "()I" } : Jvm.MethodName) ({ cls := "WatchStack$Task", name := "longest", desc := "()I" } : Jvm.MethodName)) ∈ lw_all := lw_g (lw_at lw_m4 186 rfl) rfl
theorem q1043 : (Jvm.Cond.code ({ cls := "WatchStack$Task", name := "longest", desc := "()I" } : Jvm.MethodName) prog_12_method_6_code (1 : Nat) (Option.some Jvm.ClassFile.FieldType.int)) ∈ lw_all := lw_g (lw_at lw_m4 187 rfl) rfl
theorem q1058 : (Jvm.Cond.instanceMethod ({ cls := "WatchStack$Task", name := "shortest", desc := "()I" } : Jvm.MethodName)) ∈ lw_all := lw_g (lw_at lw_m4 202 rfl) rfl
theorem q1059 : (Jvm.Cond.selects "WatchStack$Task" ({ cls := "WatchStack$Task", name := "shortest", desc := "()I" } : Jvm.MethodName) ({ cls := "WatchStack$Task", name := "shortest", desc := "()I" } : Jvm.MethodName)) ∈ lw_all := lw_g (lw_at lw_m4 203 rfl) rfl
theorem q1060 : (Jvm.Cond.code ({ cls := "WatchStack$Task", name := "shortest", desc := "()I" } : Jvm.MethodName) prog_12_method_7_code (1 : Nat) (Option.some Jvm.ClassFile.FieldType.int)) ∈ lw_all := lw_g (lw_at lw_m4 204 rfl) rfl
theorem q1084 : (Jvm.Cond.instanceMethod ({ cls := "WatchStack$Task", name := "next", desc := "(II)I" } : Jvm.MethodName)) ∈ lw_all := lw_g (lw_at lw_m4 228 rfl) rfl
theorem q1085 : (Jvm.Cond.selects "WatchStack$Task" ({ cls := "WatchStack$Task", name := "next", desc := "(II)I" } : Jvm.MethodName) ({ cls := "WatchStack$Task", name := "next", desc := "(II)I" } : Jvm.MethodName)) ∈ lw_all := lw_g (lw_at lw_m4 229 rfl) rfl
theorem q1086 : (Jvm.Cond.code ({ cls := "WatchStack$Task", name := "next", desc := "(II)I" } : Jvm.MethodName) prog_12_method_3_code (6 : Nat) (Option.some Jvm.ClassFile.FieldType.int)) ∈ lw_all := lw_g (lw_at lw_m4 230 rfl) rfl
theorem q1087 : (Jvm.Cond.methodLink "WatchStack$Task" (44 : Nat) ({ cls := "java/lang/Integer", name := "bitCount", desc := "(I)I" } : Jvm.MethodName)) ∈ lw_all := lw_g (lw_at lw_m4 231 rfl) rfl
theorem q2378 : (Jvm.Cond.castable "WatchStack$Task" "java/lang/Object") ∈ lw_tbl := lw_at lw_m10 82 rfl
theorem in_X13 : ∀ w ∈ wsX130, w ∈ lw_all := lw_in wsX130 [838, 840, 842, 844, 846, 848, 850, 852, 854] (by decide +kernel) (by decide +kernel)

/-! WatchStack$Injection -/
set_option maxRecDepth 100000
def RX14 : String := "WatchStack$Injection"
def TX14 : u_T := fun k => match k with
  | 0 => ("WatchStack$Injection", "kind", "I", true)
  | 1 => ("WatchStack$Injection", "who", "I", true)
  | 2 => ("WatchStack$Injection", "job", "I", true)
  | 3 => ("WatchStack$Injection", "node", "I", true)
  | _ => ("WatchStack$Injection", "times", "I", true)
def tyX14 : Nat → FieldType := fun k => match k with
  | 0 => .int
  | 1 => .int
  | 2 => .int
  | 3 => .int
  | _ => .int
abbrev wsX140 : List Cond := u_ws RX14 TX14 5
theorem nmX14 : ∀ a, a < 5 → ∀ b, b < 5 → a ≠ b → (TX14 a).2.1 ≠ (TX14 b).2.1 := by decide +kernel
theorem tyX14_ok : ∀ k, k < 5 → parseFieldDescriptor (TX14 k).2.2.1 = some (tyX14 k) := by decide +kernel
abbrev cX14_init : ByteArray := prog_5_method_1_code
def yX14_init : MethodName := ⟨RX14, "<init>", "(IIIII)V"⟩
def dkwX14_init_1 : List UInt8 := [181, 0, 21, 42, 21, 5, 181, 0, 24, 177]
abbrev dktX14_init_1 : List UInt8 := dkwX14_init_1 ++ []
def dkwX14_init_0 : List UInt8 := [42, 183, 0, 3, 42, 27, 181, 0, 9, 42, 28, 181, 0, 15, 42, 29, 181, 0, 18, 42, 21, 4]
abbrev dktX14_init_0 : List UInt8 := dkwX14_init_0 ++ dktX14_init_1
theorem dksX14_init_0 : cX14_init.data.toList.drop 0 = dktX14_init_0 := by decide +kernel
theorem dksX14_init_1 : cX14_init.data.toList.drop 22 = dktX14_init_1 := dk_seg dksX14_init_0 22 rfl rfl
theorem dX14_init_0 : decode cX14_init 0 = .ok (.aload_n 0, 1) := dk_42 (dk_at dksX14_init_0 0 rfl rfl)
theorem dX14_init_1 : decode cX14_init 1 = .ok (.invokespecial 3, 3) := dk_183 0 3 (dk_at dksX14_init_0 1 rfl rfl)
theorem dX14_init_4 : decode cX14_init 4 = .ok (.aload_n 0, 1) := dk_42 (dk_at dksX14_init_0 4 rfl rfl)
theorem dX14_init_5 : decode cX14_init 5 = .ok (.iload_n 1, 1) := dk_27 (dk_at dksX14_init_0 5 rfl rfl)
theorem dX14_init_6 : decode cX14_init 6 = .ok (.putfield 9, 3) := dk_181 0 9 (dk_at dksX14_init_0 6 rfl rfl)
theorem dX14_init_9 : decode cX14_init 9 = .ok (.aload_n 0, 1) := dk_42 (dk_at dksX14_init_0 9 rfl rfl)
theorem dX14_init_10 : decode cX14_init 10 = .ok (.iload_n 2, 1) := dk_28 (dk_at dksX14_init_0 10 rfl rfl)
theorem dX14_init_11 : decode cX14_init 11 = .ok (.putfield 15, 3) := dk_181 0 15 (dk_at dksX14_init_0 11 rfl rfl)
theorem dX14_init_14 : decode cX14_init 14 = .ok (.aload_n 0, 1) := dk_42 (dk_at dksX14_init_0 14 rfl rfl)
theorem dX14_init_15 : decode cX14_init 15 = .ok (.iload_n 3, 1) := dk_29 (dk_at dksX14_init_0 15 rfl rfl)
theorem dX14_init_16 : decode cX14_init 16 = .ok (.putfield 18, 3) := dk_181 0 18 (dk_at dksX14_init_0 16 rfl rfl)
theorem dX14_init_19 : decode cX14_init 19 = .ok (.aload_n 0, 1) := dk_42 (dk_at dksX14_init_0 19 rfl rfl)
theorem dX14_init_20 : decode cX14_init 20 = .ok (.iload 4, 2) := dk_21 4 (dk_at dksX14_init_0 20 rfl rfl)
theorem dX14_init_22 : decode cX14_init 22 = .ok (.putfield 21, 3) := dk_181 0 21 (dk_at dksX14_init_1 0 rfl rfl)
theorem dX14_init_25 : decode cX14_init 25 = .ok (.aload_n 0, 1) := dk_42 (dk_at dksX14_init_1 3 rfl rfl)
theorem dX14_init_26 : decode cX14_init 26 = .ok (.iload 5, 2) := dk_21 5 (dk_at dksX14_init_1 4 rfl rfl)
theorem dX14_init_28 : decode cX14_init 28 = .ok (.putfield 24, 3) := dk_181 0 24 (dk_at dksX14_init_1 6 rfl rfl)
theorem dX14_init_31 : decode cX14_init 31 = .ok (.return_, 1) := dk_177 (dk_at dksX14_init_1 9 rfl rfl)
abbrev cX14_isOf : ByteArray := prog_5_method_2_code
def yX14_isOf : MethodName := ⟨RX14, "isOf", "(II)Z"⟩
def dkwX14_isOf_1 : List UInt8 := [180, 0, 18, 42, 180, 0, 24, 96, 4, 100, 133, 184, 0, 27, 153, 0, 7, 4, 167, 0, 4, 3, 172]
abbrev dktX14_isOf_1 : List UInt8 := dkwX14_isOf_1 ++ []
def dkwX14_isOf_0 : List UInt8 := [42, 180, 0, 9, 8, 159, 0, 40, 42, 180, 0, 15, 27, 160, 0, 32, 28, 133, 42, 180, 0, 18, 133, 42]
abbrev dktX14_isOf_0 : List UInt8 := dkwX14_isOf_0 ++ dktX14_isOf_1
theorem dksX14_isOf_0 : cX14_isOf.data.toList.drop 0 = dktX14_isOf_0 := by decide +kernel
theorem dksX14_isOf_1 : cX14_isOf.data.toList.drop 24 = dktX14_isOf_1 := dk_seg dksX14_isOf_0 24 rfl rfl
theorem dX14_isOf_0 : decode cX14_isOf 0 = .ok (.aload_n 0, 1) := dk_42 (dk_at dksX14_isOf_0 0 rfl rfl)
theorem dX14_isOf_1 : decode cX14_isOf 1 = .ok (.getfield 9, 3) := dk_180 0 9 (dk_at dksX14_isOf_0 1 rfl rfl)
theorem dX14_isOf_4 : decode cX14_isOf 4 = .ok (.iconst 5, 1) := dk_8 (dk_at dksX14_isOf_0 4 rfl rfl)
theorem dX14_isOf_5 : decode cX14_isOf 5 = .ok (.if_icmp .eq 40, 3) := dk_159 0 40 (dk_at dksX14_isOf_0 5 rfl rfl)
theorem dX14_isOf_8 : decode cX14_isOf 8 = .ok (.aload_n 0, 1) := dk_42 (dk_at dksX14_isOf_0 8 rfl rfl)
theorem dX14_isOf_9 : decode cX14_isOf 9 = .ok (.getfield 15, 3) := dk_180 0 15 (dk_at dksX14_isOf_0 9 rfl rfl)
theorem dX14_isOf_12 : decode cX14_isOf 12 = .ok (.iload_n 1, 1) := dk_27 (dk_at dksX14_isOf_0 12 rfl rfl)
theorem dX14_isOf_13 : decode cX14_isOf 13 = .ok (.if_icmp .ne 32, 3) := dk_160 0 32 (dk_at dksX14_isOf_0 13 rfl rfl)
theorem dX14_isOf_16 : decode cX14_isOf 16 = .ok (.iload_n 2, 1) := dk_28 (dk_at dksX14_isOf_0 16 rfl rfl)
theorem dX14_isOf_17 : decode cX14_isOf 17 = .ok (.i2l, 1) := dk_133 (dk_at dksX14_isOf_0 17 rfl rfl)
theorem dX14_isOf_18 : decode cX14_isOf 18 = .ok (.aload_n 0, 1) := dk_42 (dk_at dksX14_isOf_0 18 rfl rfl)
theorem dX14_isOf_19 : decode cX14_isOf 19 = .ok (.getfield 18, 3) := dk_180 0 18 (dk_at dksX14_isOf_0 19 rfl rfl)
theorem dX14_isOf_22 : decode cX14_isOf 22 = .ok (.i2l, 1) := dk_133 (dk_at dksX14_isOf_0 22 rfl rfl)
theorem dX14_isOf_23 : decode cX14_isOf 23 = .ok (.aload_n 0, 1) := dk_42 (dk_at dksX14_isOf_0 23 rfl rfl)
theorem dX14_isOf_24 : decode cX14_isOf 24 = .ok (.getfield 18, 3) := dk_180 0 18 (dk_at dksX14_isOf_1 0 rfl rfl)
theorem dX14_isOf_27 : decode cX14_isOf 27 = .ok (.aload_n 0, 1) := dk_42 (dk_at dksX14_isOf_1 3 rfl rfl)
theorem dX14_isOf_28 : decode cX14_isOf 28 = .ok (.getfield 24, 3) := dk_180 0 24 (dk_at dksX14_isOf_1 4 rfl rfl)
theorem dX14_isOf_31 : decode cX14_isOf 31 = .ok (.iadd, 1) := dk_96 (dk_at dksX14_isOf_1 7 rfl rfl)
theorem dX14_isOf_32 : decode cX14_isOf 32 = .ok (.iconst 1, 1) := dk_4 (dk_at dksX14_isOf_1 8 rfl rfl)
theorem dX14_isOf_33 : decode cX14_isOf 33 = .ok (.isub, 1) := dk_100 (dk_at dksX14_isOf_1 9 rfl rfl)
theorem dX14_isOf_34 : decode cX14_isOf 34 = .ok (.i2l, 1) := dk_133 (dk_at dksX14_isOf_1 10 rfl rfl)
theorem dX14_isOf_35 : decode cX14_isOf 35 = .ok (.invokestatic 27, 3) := dk_184 0 27 (dk_at dksX14_isOf_1 11 rfl rfl)
theorem dX14_isOf_38 : decode cX14_isOf 38 = .ok (.ifCond .eq 7, 3) := dk_153 0 7 (dk_at dksX14_isOf_1 14 rfl rfl)
theorem dX14_isOf_41 : decode cX14_isOf 41 = .ok (.iconst 1, 1) := dk_4 (dk_at dksX14_isOf_1 17 rfl rfl)
theorem dX14_isOf_42 : decode cX14_isOf 42 = .ok (.goto 4, 3) := dk_167 0 4 (dk_at dksX14_isOf_1 18 rfl rfl)
theorem dX14_isOf_45 : decode cX14_isOf 45 = .ok (.iconst 0, 1) := dk_3 (dk_at dksX14_isOf_1 21 rfl rfl)
theorem dX14_isOf_46 : decode cX14_isOf 46 = .ok (.ireturn, 1) := dk_172 (dk_at dksX14_isOf_1 22 rfl rfl)
theorem q166 : (Jvm.Cond.initialized "WatchStack$Injection") ∈ lw_all := lw_g (lw_at lw_m1 30 rfl) rfl
theorem q895 : (Jvm.Cond.selects "WatchStack$Injection" ({ cls := "java/lang/Object", name := "getClass", desc := "()Ljava/lang/Class;" } : Jvm.MethodName) ({ cls := "java/lang/Object", name := "getClass", desc := "()Ljava/lang/Class;" } : Jvm.MethodName)) ∈ lw_all := lw_g (lw_at lw_m4 39 rfl) rfl
theorem q948 : (Jvm.Cond.instantiable "WatchStack$Injection" (5 : Nat)) ∈ lw_all := lw_g (lw_at lw_m4 92 rfl) rfl
theorem q951 : (Jvm.Cond.instanceMethod ({ cls := "WatchStack$Injection", name := "<init>", desc := "(IIIII)V" } : Jvm.MethodName)) ∈ lw_all := lw_g (lw_at lw_m4 95 rfl) rfl
theorem q952 : (Jvm.Cond.code ({ cls := "WatchStack$Injection", name := "<init>", desc := "(IIIII)V" } : Jvm.MethodName) prog_5_method_1_code (6 : Nat) (Option.none : Option Jvm.ClassFile.FieldType)) ∈ lw_all := lw_g (lw_at lw_m4 96 rfl) rfl
theorem q953 : (Jvm.Cond.methodLink "WatchStack$Injection" (3 : Nat) ({ cls := "java/lang/Object", name := "<init>", desc := "()V" } : Jvm.MethodName)) ∈ lw_all := lw_g (lw_at lw_m4 97 rfl) rfl
theorem q954 : (Jvm.Cond.fieldLink "WatchStack$Injection" (9 : Nat) "WatchStack$Injection" "kind" "I") ∈ lw_all := lw_g (lw_at lw_m4 98 rfl) rfl
theorem q956 : (Jvm.Cond.fieldLink "WatchStack$Injection" (15 : Nat) "WatchStack$Injection" "who" "I") ∈ lw_all := lw_g (lw_at lw_m4 100 rfl) rfl
theorem q958 : (Jvm.Cond.fieldLink "WatchStack$Injection" (18 : Nat) "WatchStack$Injection" "job" "I") ∈ lw_all := lw_g (lw_at lw_m4 102 rfl) rfl
theorem q960 : (Jvm.Cond.fieldLink "WatchStack$Injection" (21 : Nat) "WatchStack$Injection" "node" "I") ∈ lw_all := lw_g (lw_at lw_m4 104 rfl) rfl
theorem q962 : (Jvm.Cond.fieldLink "WatchStack$Injection" (24 : Nat) "WatchStack$Injection" "times" "I") ∈ lw_all := lw_g (lw_at lw_m4 106 rfl) rfl
theorem q964 : (Jvm.Cond.laysFinal "WatchStack$Injection" "WatchStack$Injection" "kind" "I") ∈ lw_all := lw_g (lw_at lw_m4 108 rfl) rfl
theorem q965 : (Jvm.Cond.soleField "WatchStack$Injection" "kind") ∈ lw_all := lw_g (lw_at lw_m4 109 rfl) rfl
theorem q966 : (Jvm.Cond.laysFinal "WatchStack$Injection" "WatchStack$Injection" "who" "I") ∈ lw_all := lw_g (lw_at lw_m4 110 rfl) rfl
theorem q967 : (Jvm.Cond.soleField "WatchStack$Injection" "who") ∈ lw_all := lw_g (lw_at lw_m4 111 rfl) rfl
theorem q968 : (Jvm.Cond.laysFinal "WatchStack$Injection" "WatchStack$Injection" "job" "I") ∈ lw_all := lw_g (lw_at lw_m4 112 rfl) rfl
theorem q969 : (Jvm.Cond.soleField "WatchStack$Injection" "job") ∈ lw_all := lw_g (lw_at lw_m4 113 rfl) rfl
theorem q970 : (Jvm.Cond.laysFinal "WatchStack$Injection" "WatchStack$Injection" "node" "I") ∈ lw_all := lw_g (lw_at lw_m4 114 rfl) rfl
theorem q971 : (Jvm.Cond.soleField "WatchStack$Injection" "node") ∈ lw_all := lw_g (lw_at lw_m4 115 rfl) rfl
theorem q972 : (Jvm.Cond.laysFinal "WatchStack$Injection" "WatchStack$Injection" "times" "I") ∈ lw_all := lw_g (lw_at lw_m4 116 rfl) rfl
theorem q973 : (Jvm.Cond.soleField "WatchStack$Injection" "times") ∈ lw_all := lw_g (lw_at lw_m4 117 rfl) rfl
theorem q974 : (Jvm.Cond.superclass "WatchStack$Injection" "java/lang/Object") ∈ lw_all := lw_g (lw_at lw_m4 118 rfl) rfl
theorem q1181 : (Jvm.Cond.instanceMethod ({ cls := "WatchStack$Injection", name := "isOf", desc := "(II)Z" } : Jvm.MethodName)) ∈ lw_all := lw_g (lw_at lw_m5 85 rfl) rfl
theorem q1182 : (Jvm.Cond.selects "WatchStack$Injection" ({ cls := "WatchStack$Injection", name := "isOf", desc := "(II)Z" } : Jvm.MethodName) ({ cls := "WatchStack$Injection", name := "isOf", desc := "(II)Z" } : Jvm.MethodName)) ∈ lw_all := lw_g (lw_at lw_m5 86 rfl) rfl
theorem q1183 : (Jvm.Cond.code ({ cls := "WatchStack$Injection", name := "isOf", desc := "(II)Z" } : Jvm.MethodName) prog_5_method_2_code (3 : Nat) (Option.some Jvm.ClassFile.FieldType.boolean)) ∈ lw_all := lw_g (lw_at lw_m5 87 rfl) rfl
theorem q1184 : (Jvm.Cond.methodLinkNest "WatchStack$Injection" (27 : Nat) ({ cls := "WatchStack", name := "in", desc := "(JJJ)Z" } : Jvm.MethodName) "WatchStack") ∈ lw_tbl := lw_at lw_m5 88 rfl
theorem q2379 : (Jvm.Cond.castable "WatchStack$Injection" "java/lang/Object") ∈ lw_tbl := lw_at lw_m10 83 rfl
theorem in_X14 : ∀ w ∈ wsX140, w ∈ lw_all := lw_in wsX140 [964, 966, 968, 970, 972] (by decide +kernel) (by decide +kernel)

/-! WatchStack$Reset -/
set_option maxRecDepth 100000
def RX15 : String := "WatchStack$Reset"
def TX15 : u_T := fun k => match k with
  | 0 => ("java/lang/Throwable", "cause", "Ljava/lang/Throwable;", false)
  | 1 => ("java/lang/Throwable", "stackTrace", "[Ljava/lang/StackTraceElement;", false)
  | 2 => ("java/lang/Throwable", "suppressedExceptions", "Ljava/util/List;", false)
  | 3 => ("java/lang/Throwable", "detailMessage", "Ljava/lang/String;", false)
  | 4 => ("java/lang/Throwable", "backtrace", "Ljava/lang/Object;", false)
  | _ => ("java/lang/Throwable", "depth", "I", false)
def tyX15 : Nat → FieldType := fun k => match k with
  | 0 => .object "java/lang/Throwable"
  | 1 => .array (.object "java/lang/StackTraceElement")
  | 2 => .object "java/util/List"
  | 3 => .object "java/lang/String"
  | 4 => .object "java/lang/Object"
  | _ => .int
abbrev wsX150 : List Cond := u_ws RX15 TX15 6
theorem nmX15 : ∀ a, a < 6 → ∀ b, b < 6 → a ≠ b → (TX15 a).2.1 ≠ (TX15 b).2.1 := by decide +kernel
theorem tyX15_ok : ∀ k, k < 6 → parseFieldDescriptor (TX15 k).2.2.1 = some (tyX15 k) := by decide +kernel
abbrev cX15_init : ByteArray := prog_10_method_1_code
def yX15_init : MethodName := ⟨RX15, "<init>", "()V"⟩
def dkwX15_init_0 : List UInt8 := [42, 1, 1, 3, 3, 183, 0, 1, 177]
abbrev dktX15_init_0 : List UInt8 := dkwX15_init_0 ++ []
theorem dksX15_init_0 : cX15_init.data.toList.drop 0 = dktX15_init_0 := by decide +kernel
theorem dX15_init_0 : decode cX15_init 0 = .ok (.aload_n 0, 1) := dk_42 (dk_at dksX15_init_0 0 rfl rfl)
theorem dX15_init_1 : decode cX15_init 1 = .ok (.aconst_null, 1) := dk_1 (dk_at dksX15_init_0 1 rfl rfl)
theorem dX15_init_2 : decode cX15_init 2 = .ok (.aconst_null, 1) := dk_1 (dk_at dksX15_init_0 2 rfl rfl)
theorem dX15_init_3 : decode cX15_init 3 = .ok (.iconst 0, 1) := dk_3 (dk_at dksX15_init_0 3 rfl rfl)
theorem dX15_init_4 : decode cX15_init 4 = .ok (.iconst 0, 1) := dk_3 (dk_at dksX15_init_0 4 rfl rfl)
theorem dX15_init_5 : decode cX15_init 5 = .ok (.invokespecial 1, 3) := dk_183 0 1 (dk_at dksX15_init_0 5 rfl rfl)
theorem dX15_init_8 : decode cX15_init 8 = .ok (.return_, 1) := dk_177 (dk_at dksX15_init_0 8 rfl rfl)
theorem q170 : (Jvm.Cond.initialized "WatchStack$Reset") ∈ lw_all := lw_g (lw_at lw_m1 34 rfl) rfl
theorem q741 : (Jvm.Cond.selects "WatchStack$Reset" ({ cls := "java/lang/Throwable", name := "fillInStackTrace", desc := "()Ljava/lang/Throwable;" } : Jvm.MethodName) ({ cls := "java/lang/Throwable", name := "fillInStackTrace", desc := "()Ljava/lang/Throwable;" } : Jvm.MethodName)) ∈ lw_all := lw_g (lw_at lw_m3 125 rfl) rfl
theorem q899 : (Jvm.Cond.selects "WatchStack$Reset" ({ cls := "java/lang/Object", name := "getClass", desc := "()Ljava/lang/Class;" } : Jvm.MethodName) ({ cls := "java/lang/Object", name := "getClass", desc := "()Ljava/lang/Class;" } : Jvm.MethodName)) ∈ lw_all := lw_g (lw_at lw_m4 43 rfl) rfl
theorem q1240 : (Jvm.Cond.instantiable "WatchStack$Reset" (6 : Nat)) ∈ lw_all := lw_g (lw_at lw_m5 144 rfl) rfl
theorem q1241 : (Jvm.Cond.castable "WatchStack$Reset" "WatchStack$Reset") ∈ lw_tbl := lw_at lw_m5 145 rfl
theorem q1242 : (Jvm.Cond.selects "WatchStack$Reset" ({ cls := "java/lang/Throwable", name := "fillInStackTrace", desc := "(I)Ljava/lang/Throwable;" } : Jvm.MethodName) ({ cls := "java/lang/Throwable", name := "fillInStackTrace", desc := "(I)Ljava/lang/Throwable;" } : Jvm.MethodName)) ∈ lw_all := lw_g (lw_at lw_m5 146 rfl) rfl
theorem q1243 : (Jvm.Cond.lays "WatchStack$Reset" "java/lang/Throwable" "cause" "Ljava/lang/Throwable;") ∈ lw_all := lw_g (lw_at lw_m5 147 rfl) rfl
theorem q1244 : (Jvm.Cond.lays "WatchStack$Reset" "java/lang/Throwable" "stackTrace" "[Ljava/lang/StackTraceElement;") ∈ lw_all := lw_g (lw_at lw_m5 148 rfl) rfl
theorem q1245 : (Jvm.Cond.lays "WatchStack$Reset" "java/lang/Throwable" "suppressedExceptions" "Ljava/util/List;") ∈ lw_all := lw_g (lw_at lw_m5 149 rfl) rfl
theorem q1246 : (Jvm.Cond.lays "WatchStack$Reset" "java/lang/Throwable" "detailMessage" "Ljava/lang/String;") ∈ lw_all := lw_g (lw_at lw_m5 150 rfl) rfl
theorem q1247 : (Jvm.Cond.lays "WatchStack$Reset" "java/lang/Throwable" "backtrace" "Ljava/lang/Object;") ∈ lw_all := lw_g (lw_at lw_m5 151 rfl) rfl
theorem q1249 : (Jvm.Cond.instanceMethod ({ cls := "WatchStack$Reset", name := "<init>", desc := "()V" } : Jvm.MethodName)) ∈ lw_all := lw_g (lw_at lw_m5 153 rfl) rfl
theorem q1250 : (Jvm.Cond.code ({ cls := "WatchStack$Reset", name := "<init>", desc := "()V" } : Jvm.MethodName) prog_10_method_1_code (1 : Nat) (Option.none : Option Jvm.ClassFile.FieldType)) ∈ lw_all := lw_g (lw_at lw_m5 154 rfl) rfl
theorem q1251 : (Jvm.Cond.methodLink "WatchStack$Reset" (1 : Nat) ({ cls := "java/lang/Exception", name := "<init>", desc := "(Ljava/lang/String;Ljava/lang/Throwable;ZZ)V" } : Jvm.MethodName)) ∈ lw_all := lw_g (lw_at lw_m5 155 rfl) rfl
theorem q1252 : (Jvm.Cond.lays "WatchStack$Reset" "java/lang/Throwable" "depth" "I") ∈ lw_all := lw_g (lw_at lw_m5 156 rfl) rfl
theorem q1253 : (Jvm.Cond.superclass "WatchStack$Reset" "java/lang/Exception") ∈ lw_all := lw_g (lw_at lw_m5 157 rfl) rfl
theorem q2380 : (Jvm.Cond.castable "WatchStack$Reset" "java/lang/Object") ∈ lw_tbl := lw_at lw_m10 84 rfl
theorem in_X15 : ∀ w ∈ wsX150, w ∈ lw_all := lw_in wsX150 [1243, 1244, 1245, 1246, 1247, 1252] (by decide +kernel) (by decide +kernel)

/-! WatchStack$Ledger -/
set_option maxRecDepth 100000
def RX16 : String := "WatchStack$Ledger"
def TX16 : u_T := fun k => match k with
  | 0 => ("WatchStack$Ledger", "row", "[LWatchStack$Note;", true)
  | _ => ("WatchStack$Ledger", "many", "I", false)
def tyX16 : Nat → FieldType := fun k => match k with
  | 0 => .array (.object "WatchStack$Note")
  | _ => .int
abbrev wsX160 : List Cond := u_ws RX16 TX16 2
theorem nmX16 : ∀ a, a < 2 → ∀ b, b < 2 → a ≠ b → (TX16 a).2.1 ≠ (TX16 b).2.1 := by decide +kernel
theorem tyX16_ok : ∀ k, k < 2 → parseFieldDescriptor (TX16 k).2.2.1 = some (tyX16 k) := by decide +kernel
abbrev cX16_init : ByteArray := prog_6_method_1_code
def yX16_init : MethodName := ⟨RX16, "<init>", "(I)V"⟩
def dkwX16_init_0 : List UInt8 := [42, 183, 0, 1, 42, 27, 154, 0, 10, 4, 189, 0, 7, 167, 0, 7, 4, 189, 0, 9, 181, 0, 11, 177]
abbrev dktX16_init_0 : List UInt8 := dkwX16_init_0 ++ []
theorem dksX16_init_0 : cX16_init.data.toList.drop 0 = dktX16_init_0 := by decide +kernel
theorem dX16_init_0 : decode cX16_init 0 = .ok (.aload_n 0, 1) := dk_42 (dk_at dksX16_init_0 0 rfl rfl)
theorem dX16_init_1 : decode cX16_init 1 = .ok (.invokespecial 1, 3) := dk_183 0 1 (dk_at dksX16_init_0 1 rfl rfl)
theorem dX16_init_4 : decode cX16_init 4 = .ok (.aload_n 0, 1) := dk_42 (dk_at dksX16_init_0 4 rfl rfl)
theorem dX16_init_5 : decode cX16_init 5 = .ok (.iload_n 1, 1) := dk_27 (dk_at dksX16_init_0 5 rfl rfl)
theorem dX16_init_6 : decode cX16_init 6 = .ok (.ifCond .ne 10, 3) := dk_154 0 10 (dk_at dksX16_init_0 6 rfl rfl)
theorem dX16_init_9 : decode cX16_init 9 = .ok (.iconst 1, 1) := dk_4 (dk_at dksX16_init_0 9 rfl rfl)
theorem dX16_init_10 : decode cX16_init 10 = .ok (.anewarray 7, 3) := dk_189 0 7 (dk_at dksX16_init_0 10 rfl rfl)
theorem dX16_init_13 : decode cX16_init 13 = .ok (.goto 7, 3) := dk_167 0 7 (dk_at dksX16_init_0 13 rfl rfl)
theorem dX16_init_16 : decode cX16_init 16 = .ok (.iconst 1, 1) := dk_4 (dk_at dksX16_init_0 16 rfl rfl)
theorem dX16_init_17 : decode cX16_init 17 = .ok (.anewarray 9, 3) := dk_189 0 9 (dk_at dksX16_init_0 17 rfl rfl)
theorem dX16_init_20 : decode cX16_init 20 = .ok (.putfield 11, 3) := dk_181 0 11 (dk_at dksX16_init_0 20 rfl rfl)
theorem dX16_init_23 : decode cX16_init 23 = .ok (.return_, 1) := dk_177 (dk_at dksX16_init_0 23 rfl rfl)
abbrev cX16_isOffered : ByteArray := prog_6_method_2_code
def yX16_isOffered : MethodName := ⟨RX16, "isOffered", "(LWatchStack$Note;)V"⟩
def dkwX16_isOffered_1 : List UInt8 := [180, 0, 11, 3, 1, 83, 177]
abbrev dktX16_isOffered_1 : List UInt8 := dkwX16_isOffered_1 ++ []
def dkwX16_isOffered_0 : List UInt8 := [42, 180, 0, 11, 3, 43, 83, 42, 89, 180, 0, 17, 4, 96, 181, 0, 17, 167, 0, 11, 77, 42]
abbrev dktX16_isOffered_0 : List UInt8 := dkwX16_isOffered_0 ++ dktX16_isOffered_1
theorem dksX16_isOffered_0 : cX16_isOffered.data.toList.drop 0 = dktX16_isOffered_0 := by decide +kernel
theorem dksX16_isOffered_1 : cX16_isOffered.data.toList.drop 22 = dktX16_isOffered_1 := dk_seg dksX16_isOffered_0 22 rfl rfl
theorem dX16_isOffered_0 : decode cX16_isOffered 0 = .ok (.aload_n 0, 1) := dk_42 (dk_at dksX16_isOffered_0 0 rfl rfl)
theorem dX16_isOffered_1 : decode cX16_isOffered 1 = .ok (.getfield 11, 3) := dk_180 0 11 (dk_at dksX16_isOffered_0 1 rfl rfl)
theorem dX16_isOffered_4 : decode cX16_isOffered 4 = .ok (.iconst 0, 1) := dk_3 (dk_at dksX16_isOffered_0 4 rfl rfl)
theorem dX16_isOffered_5 : decode cX16_isOffered 5 = .ok (.aload_n 1, 1) := dk_43 (dk_at dksX16_isOffered_0 5 rfl rfl)
theorem dX16_isOffered_6 : decode cX16_isOffered 6 = .ok (.aastore, 1) := dk_83 (dk_at dksX16_isOffered_0 6 rfl rfl)
theorem dX16_isOffered_7 : decode cX16_isOffered 7 = .ok (.aload_n 0, 1) := dk_42 (dk_at dksX16_isOffered_0 7 rfl rfl)
theorem dX16_isOffered_8 : decode cX16_isOffered 8 = .ok (.dup, 1) := dk_89 (dk_at dksX16_isOffered_0 8 rfl rfl)
theorem dX16_isOffered_9 : decode cX16_isOffered 9 = .ok (.getfield 17, 3) := dk_180 0 17 (dk_at dksX16_isOffered_0 9 rfl rfl)
theorem dX16_isOffered_12 : decode cX16_isOffered 12 = .ok (.iconst 1, 1) := dk_4 (dk_at dksX16_isOffered_0 12 rfl rfl)
theorem dX16_isOffered_13 : decode cX16_isOffered 13 = .ok (.iadd, 1) := dk_96 (dk_at dksX16_isOffered_0 13 rfl rfl)
theorem dX16_isOffered_14 : decode cX16_isOffered 14 = .ok (.putfield 17, 3) := dk_181 0 17 (dk_at dksX16_isOffered_0 14 rfl rfl)
theorem dX16_isOffered_17 : decode cX16_isOffered 17 = .ok (.goto 11, 3) := dk_167 0 11 (dk_at dksX16_isOffered_0 17 rfl rfl)
theorem dX16_isOffered_20 : decode cX16_isOffered 20 = .ok (.astore_n 2, 1) := dk_77 (dk_at dksX16_isOffered_0 20 rfl rfl)
theorem dX16_isOffered_21 : decode cX16_isOffered 21 = .ok (.aload_n 0, 1) := dk_42 (dk_at dksX16_isOffered_0 21 rfl rfl)
theorem dX16_isOffered_22 : decode cX16_isOffered 22 = .ok (.getfield 11, 3) := dk_180 0 11 (dk_at dksX16_isOffered_1 0 rfl rfl)
theorem dX16_isOffered_25 : decode cX16_isOffered 25 = .ok (.iconst 0, 1) := dk_3 (dk_at dksX16_isOffered_1 3 rfl rfl)
theorem dX16_isOffered_26 : decode cX16_isOffered 26 = .ok (.aconst_null, 1) := dk_1 (dk_at dksX16_isOffered_1 4 rfl rfl)
theorem dX16_isOffered_27 : decode cX16_isOffered 27 = .ok (.aastore, 1) := dk_83 (dk_at dksX16_isOffered_1 5 rfl rfl)
theorem dX16_isOffered_28 : decode cX16_isOffered 28 = .ok (.return_, 1) := dk_177 (dk_at dksX16_isOffered_1 6 rfl rfl)
theorem q172 : (Jvm.Cond.initialized "WatchStack$Ledger") ∈ lw_all := lw_g (lw_at lw_m1 36 rfl) rfl
theorem q896 : (Jvm.Cond.selects "WatchStack$Ledger" ({ cls := "java/lang/Object", name := "getClass", desc := "()Ljava/lang/Class;" } : Jvm.MethodName) ({ cls := "java/lang/Object", name := "getClass", desc := "()Ljava/lang/Class;" } : Jvm.MethodName)) ∈ lw_all := lw_g (lw_at lw_m4 40 rfl) rfl
theorem q1389 : (Jvm.Cond.instantiable "WatchStack$Ledger" (2 : Nat)) ∈ lw_all := lw_g (lw_at lw_m6 53 rfl) rfl
theorem q1391 : (Jvm.Cond.instanceMethod ({ cls := "WatchStack$Ledger", name := "<init>", desc := "(I)V" } : Jvm.MethodName)) ∈ lw_all := lw_g (lw_at lw_m6 55 rfl) rfl
theorem q1392 : (Jvm.Cond.code ({ cls := "WatchStack$Ledger", name := "<init>", desc := "(I)V" } : Jvm.MethodName) prog_6_method_1_code (2 : Nat) (Option.none : Option Jvm.ClassFile.FieldType)) ∈ lw_all := lw_g (lw_at lw_m6 56 rfl) rfl
theorem q1393 : (Jvm.Cond.methodLink "WatchStack$Ledger" (1 : Nat) ({ cls := "java/lang/Object", name := "<init>", desc := "()V" } : Jvm.MethodName)) ∈ lw_all := lw_g (lw_at lw_m6 57 rfl) rfl
theorem q1394 : (Jvm.Cond.classLink "WatchStack$Ledger" (7 : Nat) "WatchStack$TaskNote") ∈ lw_all := lw_g (lw_at lw_m6 58 rfl) rfl
theorem q1396 : (Jvm.Cond.classLink "WatchStack$Ledger" (9 : Nat) "WatchStack$WatcherNote") ∈ lw_all := lw_g (lw_at lw_m6 60 rfl) rfl
theorem q1398 : (Jvm.Cond.fieldLink "WatchStack$Ledger" (11 : Nat) "WatchStack$Ledger" "row" "[LWatchStack$Note;") ∈ lw_all := lw_g (lw_at lw_m6 62 rfl) rfl
theorem q1399 : (Jvm.Cond.fieldLink "WatchStack$Ledger" (17 : Nat) "WatchStack$Ledger" "many" "I") ∈ lw_all := lw_g (lw_at lw_m6 63 rfl) rfl
theorem q1401 : (Jvm.Cond.laysFinal "WatchStack$Ledger" "WatchStack$Ledger" "row" "[LWatchStack$Note;") ∈ lw_all := lw_g (lw_at lw_m6 65 rfl) rfl
theorem q1402 : (Jvm.Cond.soleField "WatchStack$Ledger" "row") ∈ lw_all := lw_g (lw_at lw_m6 66 rfl) rfl
theorem q1403 : (Jvm.Cond.lays "WatchStack$Ledger" "WatchStack$Ledger" "many" "I") ∈ lw_all := lw_g (lw_at lw_m6 67 rfl) rfl
theorem q1404 : (Jvm.Cond.soleField "WatchStack$Ledger" "many") ∈ lw_all := lw_g (lw_at lw_m6 68 rfl) rfl
theorem q1405 : (Jvm.Cond.superclass "WatchStack$Ledger" "java/lang/Object") ∈ lw_all := lw_g (lw_at lw_m6 69 rfl) rfl
theorem q1407 : (Jvm.Cond.instanceMethod ({ cls := "WatchStack$Ledger", name := "isOffered", desc := "(LWatchStack$Note;)V" } : Jvm.MethodName)) ∈ lw_all := lw_g (lw_at lw_m6 71 rfl) rfl
theorem q1408 : (Jvm.Cond.selects "WatchStack$Ledger" ({ cls := "WatchStack$Ledger", name := "isOffered", desc := "(LWatchStack$Note;)V" } : Jvm.MethodName) ({ cls := "WatchStack$Ledger", name := "isOffered", desc := "(LWatchStack$Note;)V" } : Jvm.MethodName)) ∈ lw_all := lw_g (lw_at lw_m6 72 rfl) rfl
theorem q1409 : (Jvm.Cond.codeWith ({ cls := "WatchStack$Ledger", name := "isOffered", desc := "(LWatchStack$Note;)V" } : Jvm.MethodName) prog_6_method_2_code (3 : Nat) (Option.none : Option Jvm.ClassFile.FieldType) [((0 : Nat), (17 : Nat), (20 : Nat), (21 : Nat))]) ∈ lw_all := lw_g (lw_at lw_m6 73 rfl) rfl
theorem q1410 : (Jvm.Cond.classLink "WatchStack$Ledger" (21 : Nat) "java/lang/ArrayStoreException") ∈ lw_all := lw_g (lw_at lw_m6 74 rfl) rfl
theorem q2381 : (Jvm.Cond.castable "WatchStack$Ledger" "java/lang/Object") ∈ lw_tbl := lw_at lw_m10 85 rfl
theorem in_X16 : ∀ w ∈ wsX160, w ∈ lw_all := lw_in wsX160 [1401, 1403] (by decide +kernel) (by decide +kernel)

/-! java/util/AbstractCollection -/
set_option maxRecDepth 100000
def RJ0 : String := "java/util/AbstractCollection"
abbrev cJ0_init : ByteArray := prog_39_method_1_code
def yJ0_init : MethodName := ⟨RJ0, "<init>", "()V"⟩
theorem dJ0_init_0 : decode cJ0_init 0 = .ok (.aload_n 0, 1) := by decide +kernel
theorem dJ0_init_1 : decode cJ0_init 1 = .ok (.invokespecial 1, 3) := by decide +kernel
theorem dJ0_init_4 : decode cJ0_init 4 = .ok (.return_, 1) := by decide +kernel
theorem q139 : (Jvm.Cond.initialized "java/util/AbstractCollection") ∈ lw_all := lw_g (lw_at lw_m1 3 rfl) rfl
theorem q197 : (Jvm.Cond.instanceMethod ({ cls := "java/util/AbstractCollection", name := "<init>", desc := "()V" } : Jvm.MethodName)) ∈ lw_all := lw_g (lw_at lw_m1 61 rfl) rfl
theorem q198 : (Jvm.Cond.code ({ cls := "java/util/AbstractCollection", name := "<init>", desc := "()V" } : Jvm.MethodName) prog_39_method_1_code (1 : Nat) (Option.none : Option Jvm.ClassFile.FieldType)) ∈ lw_all := lw_g (lw_at lw_m1 62 rfl) rfl
theorem q199 : (Jvm.Cond.methodLink "java/util/AbstractCollection" (1 : Nat) ({ cls := "java/lang/Object", name := "<init>", desc := "()V" } : Jvm.MethodName)) ∈ lw_all := lw_g (lw_at lw_m1 63 rfl) rfl

/-! java/util/AbstractList -/
set_option maxRecDepth 100000
def RJ1 : String := "java/util/AbstractList"
abbrev cJ1_init : ByteArray := prog_40_method_1_code
def yJ1_init : MethodName := ⟨RJ1, "<init>", "()V"⟩
def dkwJ1_init_0 : List UInt8 := [42, 183, 0, 1, 42, 3, 181, 0, 7, 177]
abbrev dktJ1_init_0 : List UInt8 := dkwJ1_init_0 ++ []
theorem dksJ1_init_0 : cJ1_init.data.toList.drop 0 = dktJ1_init_0 := by decide +kernel
theorem dJ1_init_0 : decode cJ1_init 0 = .ok (.aload_n 0, 1) := dk_42 (dk_at dksJ1_init_0 0 rfl rfl)
theorem dJ1_init_1 : decode cJ1_init 1 = .ok (.invokespecial 1, 3) := dk_183 0 1 (dk_at dksJ1_init_0 1 rfl rfl)
theorem dJ1_init_4 : decode cJ1_init 4 = .ok (.aload_n 0, 1) := dk_42 (dk_at dksJ1_init_0 4 rfl rfl)
theorem dJ1_init_5 : decode cJ1_init 5 = .ok (.iconst 0, 1) := dk_3 (dk_at dksJ1_init_0 5 rfl rfl)
theorem dJ1_init_6 : decode cJ1_init 6 = .ok (.putfield 7, 3) := dk_181 0 7 (dk_at dksJ1_init_0 6 rfl rfl)
theorem dJ1_init_9 : decode cJ1_init 9 = .ok (.return_, 1) := dk_177 (dk_at dksJ1_init_0 9 rfl rfl)
theorem q140 : (Jvm.Cond.initialized "java/util/AbstractList") ∈ lw_all := lw_g (lw_at lw_m1 4 rfl) rfl
theorem q194 : (Jvm.Cond.instanceMethod ({ cls := "java/util/AbstractList", name := "<init>", desc := "()V" } : Jvm.MethodName)) ∈ lw_all := lw_g (lw_at lw_m1 58 rfl) rfl
theorem q195 : (Jvm.Cond.code ({ cls := "java/util/AbstractList", name := "<init>", desc := "()V" } : Jvm.MethodName) prog_40_method_1_code (1 : Nat) (Option.none : Option Jvm.ClassFile.FieldType)) ∈ lw_all := lw_g (lw_at lw_m1 59 rfl) rfl
theorem q196 : (Jvm.Cond.methodLink "java/util/AbstractList" (1 : Nat) ({ cls := "java/util/AbstractCollection", name := "<init>", desc := "()V" } : Jvm.MethodName)) ∈ lw_all := lw_g (lw_at lw_m1 60 rfl) rfl
theorem q206 : (Jvm.Cond.fieldLink "java/util/AbstractList" (7 : Nat) "java/util/AbstractList" "modCount" "I") ∈ lw_all := lw_g (lw_at lw_m1 70 rfl) rfl
theorem q214 : (Jvm.Cond.soleField "java/util/AbstractList" "modCount") ∈ lw_all := lw_g (lw_at lw_m1 78 rfl) rfl

/-! java/util/ArrayList -/
set_option maxRecDepth 100000
def RJ2 : String := "java/util/ArrayList"
def TJ2 : u_T := fun k => match k with
  | 0 => ("java/util/AbstractList", "modCount", "I", false)
  | 1 => ("java/util/ArrayList", "elementData", "[Ljava/lang/Object;", false)
  | _ => ("java/util/ArrayList", "size", "I", false)
def tyJ2 : Nat → FieldType := fun k => match k with
  | 0 => .int
  | 1 => .array (.object "java/lang/Object")
  | _ => .int
abbrev wsJ20 : List Cond := u_ws RJ2 TJ2 3
theorem nmJ2 : ∀ a, a < 3 → ∀ b, b < 3 → a ≠ b → (TJ2 a).2.1 ≠ (TJ2 b).2.1 := by decide +kernel
theorem tyJ2_ok : ∀ k, k < 3 → parseFieldDescriptor (TJ2 k).2.2.1 = some (tyJ2 k) := by decide +kernel
abbrev cJ2_init : ByteArray := prog_41_method_1_code
def yJ2_init : MethodName := ⟨RJ2, "<init>", "(I)V"⟩
def dkwJ2_init_2 : List UInt8 := [182, 0, 25, 27, 182, 0, 29, 182, 0, 32, 183, 0, 36, 191, 177]
abbrev dktJ2_init_2 : List UInt8 := dkwJ2_init_2 ++ []
def dkwJ2_init_1 : List UInt8 := [178, 0, 15, 181, 0, 9, 167, 0, 30, 187, 0, 18, 89, 187, 0, 20, 89, 183, 0, 22, 18, 23]
abbrev dktJ2_init_1 : List UInt8 := dkwJ2_init_1 ++ dktJ2_init_2
def dkwJ2_init_0 : List UInt8 := [42, 183, 0, 1, 27, 158, 0, 14, 42, 27, 189, 0, 7, 181, 0, 9, 167, 0, 44, 27, 154, 0, 13, 42]
abbrev dktJ2_init_0 : List UInt8 := dkwJ2_init_0 ++ dktJ2_init_1
theorem dksJ2_init_0 : cJ2_init.data.toList.drop 0 = dktJ2_init_0 := by decide +kernel
theorem dksJ2_init_1 : cJ2_init.data.toList.drop 24 = dktJ2_init_1 := dk_seg dksJ2_init_0 24 rfl rfl
theorem dksJ2_init_2 : cJ2_init.data.toList.drop 46 = dktJ2_init_2 := dk_seg dksJ2_init_1 22 rfl rfl
theorem dJ2_init_0 : decode cJ2_init 0 = .ok (.aload_n 0, 1) := dk_42 (dk_at dksJ2_init_0 0 rfl rfl)
theorem dJ2_init_1 : decode cJ2_init 1 = .ok (.invokespecial 1, 3) := dk_183 0 1 (dk_at dksJ2_init_0 1 rfl rfl)
theorem dJ2_init_4 : decode cJ2_init 4 = .ok (.iload_n 1, 1) := dk_27 (dk_at dksJ2_init_0 4 rfl rfl)
theorem dJ2_init_5 : decode cJ2_init 5 = .ok (.ifCond .le 14, 3) := dk_158 0 14 (dk_at dksJ2_init_0 5 rfl rfl)
theorem dJ2_init_8 : decode cJ2_init 8 = .ok (.aload_n 0, 1) := dk_42 (dk_at dksJ2_init_0 8 rfl rfl)
theorem dJ2_init_9 : decode cJ2_init 9 = .ok (.iload_n 1, 1) := dk_27 (dk_at dksJ2_init_0 9 rfl rfl)
theorem dJ2_init_10 : decode cJ2_init 10 = .ok (.anewarray 7, 3) := dk_189 0 7 (dk_at dksJ2_init_0 10 rfl rfl)
theorem dJ2_init_13 : decode cJ2_init 13 = .ok (.putfield 9, 3) := dk_181 0 9 (dk_at dksJ2_init_0 13 rfl rfl)
theorem dJ2_init_16 : decode cJ2_init 16 = .ok (.goto 44, 3) := dk_167 0 44 (dk_at dksJ2_init_0 16 rfl rfl)
theorem dJ2_init_19 : decode cJ2_init 19 = .ok (.iload_n 1, 1) := dk_27 (dk_at dksJ2_init_0 19 rfl rfl)
theorem dJ2_init_20 : decode cJ2_init 20 = .ok (.ifCond .ne 13, 3) := dk_154 0 13 (dk_at dksJ2_init_0 20 rfl rfl)
theorem dJ2_init_23 : decode cJ2_init 23 = .ok (.aload_n 0, 1) := dk_42 (dk_at dksJ2_init_0 23 rfl rfl)
theorem dJ2_init_24 : decode cJ2_init 24 = .ok (.getstatic 15, 3) := dk_178 0 15 (dk_at dksJ2_init_1 0 rfl rfl)
theorem dJ2_init_27 : decode cJ2_init 27 = .ok (.putfield 9, 3) := dk_181 0 9 (dk_at dksJ2_init_1 3 rfl rfl)
theorem dJ2_init_30 : decode cJ2_init 30 = .ok (.goto 30, 3) := dk_167 0 30 (dk_at dksJ2_init_1 6 rfl rfl)
theorem dJ2_init_33 : decode cJ2_init 33 = .ok (.new 18, 3) := dk_187 0 18 (dk_at dksJ2_init_1 9 rfl rfl)
theorem dJ2_init_36 : decode cJ2_init 36 = .ok (.dup, 1) := dk_89 (dk_at dksJ2_init_1 12 rfl rfl)
theorem dJ2_init_37 : decode cJ2_init 37 = .ok (.new 20, 3) := dk_187 0 20 (dk_at dksJ2_init_1 13 rfl rfl)
theorem dJ2_init_40 : decode cJ2_init 40 = .ok (.dup, 1) := dk_89 (dk_at dksJ2_init_1 16 rfl rfl)
theorem dJ2_init_41 : decode cJ2_init 41 = .ok (.invokespecial 22, 3) := dk_183 0 22 (dk_at dksJ2_init_1 17 rfl rfl)
theorem dJ2_init_44 : decode cJ2_init 44 = .ok (.ldc 23, 2) := dk_18 23 (dk_at dksJ2_init_1 20 rfl rfl)
theorem dJ2_init_46 : decode cJ2_init 46 = .ok (.invokevirtual 25, 3) := dk_182 0 25 (dk_at dksJ2_init_2 0 rfl rfl)
theorem dJ2_init_49 : decode cJ2_init 49 = .ok (.iload_n 1, 1) := dk_27 (dk_at dksJ2_init_2 3 rfl rfl)
theorem dJ2_init_50 : decode cJ2_init 50 = .ok (.invokevirtual 29, 3) := dk_182 0 29 (dk_at dksJ2_init_2 4 rfl rfl)
theorem dJ2_init_53 : decode cJ2_init 53 = .ok (.invokevirtual 32, 3) := dk_182 0 32 (dk_at dksJ2_init_2 7 rfl rfl)
theorem dJ2_init_56 : decode cJ2_init 56 = .ok (.invokespecial 36, 3) := dk_183 0 36 (dk_at dksJ2_init_2 10 rfl rfl)
theorem dJ2_init_59 : decode cJ2_init 59 = .ok (.athrow, 1) := dk_191 (dk_at dksJ2_init_2 13 rfl rfl)
theorem dJ2_init_60 : decode cJ2_init 60 = .ok (.return_, 1) := dk_177 (dk_at dksJ2_init_2 14 rfl rfl)
abbrev cJ2_size : ByteArray := prog_41_method_8_code
def yJ2_size : MethodName := ⟨RJ2, "size", "()I"⟩
theorem dJ2_size_0 : decode cJ2_size 0 = .ok (.aload_n 0, 1) := by decide +kernel
theorem dJ2_size_1 : decode cJ2_size 1 = .ok (.getfield 48, 3) := by decide +kernel
theorem dJ2_size_4 : decode cJ2_size 4 = .ok (.ireturn, 1) := by decide +kernel
abbrev cJ2_get : ByteArray := prog_41_method_20_code
def yJ2_get : MethodName := ⟨RJ2, "get", "(I)Ljava/lang/Object;"⟩
def dkwJ2_get_0 : List UInt8 := [27, 42, 180, 0, 48, 184, 0, 118, 87, 42, 27, 182, 0, 123, 176]
abbrev dktJ2_get_0 : List UInt8 := dkwJ2_get_0 ++ []
theorem dksJ2_get_0 : cJ2_get.data.toList.drop 0 = dktJ2_get_0 := by decide +kernel
theorem dJ2_get_0 : decode cJ2_get 0 = .ok (.iload_n 1, 1) := dk_27 (dk_at dksJ2_get_0 0 rfl rfl)
theorem dJ2_get_1 : decode cJ2_get 1 = .ok (.aload_n 0, 1) := dk_42 (dk_at dksJ2_get_0 1 rfl rfl)
theorem dJ2_get_2 : decode cJ2_get 2 = .ok (.getfield 48, 3) := dk_180 0 48 (dk_at dksJ2_get_0 2 rfl rfl)
theorem dJ2_get_5 : decode cJ2_get 5 = .ok (.invokestatic 118, 3) := dk_184 0 118 (dk_at dksJ2_get_0 5 rfl rfl)
theorem dJ2_get_8 : decode cJ2_get 8 = .ok (.pop, 1) := dk_87 (dk_at dksJ2_get_0 8 rfl rfl)
theorem dJ2_get_9 : decode cJ2_get 9 = .ok (.aload_n 0, 1) := dk_42 (dk_at dksJ2_get_0 9 rfl rfl)
theorem dJ2_get_10 : decode cJ2_get 10 = .ok (.iload_n 1, 1) := dk_27 (dk_at dksJ2_get_0 10 rfl rfl)
theorem dJ2_get_11 : decode cJ2_get 11 = .ok (.invokevirtual 123, 3) := dk_182 0 123 (dk_at dksJ2_get_0 11 rfl rfl)
theorem dJ2_get_14 : decode cJ2_get 14 = .ok (.areturn, 1) := dk_176 (dk_at dksJ2_get_0 14 rfl rfl)
abbrev cJ2_elementData : ByteArray := prog_41_method_18_code
def yJ2_elementData : MethodName := ⟨RJ2, "elementData", "(I)Ljava/lang/Object;"⟩
def dkwJ2_elementData_0 : List UInt8 := [42, 180, 0, 9, 27, 50, 176]
abbrev dktJ2_elementData_0 : List UInt8 := dkwJ2_elementData_0 ++ []
theorem dksJ2_elementData_0 : cJ2_elementData.data.toList.drop 0 = dktJ2_elementData_0 := by decide +kernel
theorem dJ2_elementData_0 : decode cJ2_elementData 0 = .ok (.aload_n 0, 1) := dk_42 (dk_at dksJ2_elementData_0 0 rfl rfl)
theorem dJ2_elementData_1 : decode cJ2_elementData 1 = .ok (.getfield 9, 3) := dk_180 0 9 (dk_at dksJ2_elementData_0 1 rfl rfl)
theorem dJ2_elementData_4 : decode cJ2_elementData 4 = .ok (.iload_n 1, 1) := dk_27 (dk_at dksJ2_elementData_0 4 rfl rfl)
theorem dJ2_elementData_5 : decode cJ2_elementData 5 = .ok (.aaload, 1) := dk_50 (dk_at dksJ2_elementData_0 5 rfl rfl)
theorem dJ2_elementData_6 : decode cJ2_elementData 6 = .ok (.areturn, 1) := dk_176 (dk_at dksJ2_elementData_0 6 rfl rfl)
abbrev cJ2_add : ByteArray := prog_41_method_25_code
def yJ2_add : MethodName := ⟨RJ2, "add", "(Ljava/lang/Object;)Z"⟩
def dkwJ2_add_1 : List UInt8 := [172]
abbrev dktJ2_add_1 : List UInt8 := dkwJ2_add_1 ++ []
def dkwJ2_add_0 : List UInt8 := [42, 89, 180, 0, 63, 4, 96, 181, 0, 63, 42, 43, 42, 180, 0, 9, 42, 180, 0, 48, 182, 0, 131, 4]
abbrev dktJ2_add_0 : List UInt8 := dkwJ2_add_0 ++ dktJ2_add_1
theorem dksJ2_add_0 : cJ2_add.data.toList.drop 0 = dktJ2_add_0 := by decide +kernel
theorem dksJ2_add_1 : cJ2_add.data.toList.drop 24 = dktJ2_add_1 := dk_seg dksJ2_add_0 24 rfl rfl
theorem dJ2_add_0 : decode cJ2_add 0 = .ok (.aload_n 0, 1) := dk_42 (dk_at dksJ2_add_0 0 rfl rfl)
theorem dJ2_add_1 : decode cJ2_add 1 = .ok (.dup, 1) := dk_89 (dk_at dksJ2_add_0 1 rfl rfl)
theorem dJ2_add_2 : decode cJ2_add 2 = .ok (.getfield 63, 3) := dk_180 0 63 (dk_at dksJ2_add_0 2 rfl rfl)
theorem dJ2_add_5 : decode cJ2_add 5 = .ok (.iconst 1, 1) := dk_4 (dk_at dksJ2_add_0 5 rfl rfl)
theorem dJ2_add_6 : decode cJ2_add 6 = .ok (.iadd, 1) := dk_96 (dk_at dksJ2_add_0 6 rfl rfl)
theorem dJ2_add_7 : decode cJ2_add 7 = .ok (.putfield 63, 3) := dk_181 0 63 (dk_at dksJ2_add_0 7 rfl rfl)
theorem dJ2_add_10 : decode cJ2_add 10 = .ok (.aload_n 0, 1) := dk_42 (dk_at dksJ2_add_0 10 rfl rfl)
theorem dJ2_add_11 : decode cJ2_add 11 = .ok (.aload_n 1, 1) := dk_43 (dk_at dksJ2_add_0 11 rfl rfl)
theorem dJ2_add_12 : decode cJ2_add 12 = .ok (.aload_n 0, 1) := dk_42 (dk_at dksJ2_add_0 12 rfl rfl)
theorem dJ2_add_13 : decode cJ2_add 13 = .ok (.getfield 9, 3) := dk_180 0 9 (dk_at dksJ2_add_0 13 rfl rfl)
theorem dJ2_add_16 : decode cJ2_add 16 = .ok (.aload_n 0, 1) := dk_42 (dk_at dksJ2_add_0 16 rfl rfl)
theorem dJ2_add_17 : decode cJ2_add 17 = .ok (.getfield 48, 3) := dk_180 0 48 (dk_at dksJ2_add_0 17 rfl rfl)
theorem dJ2_add_20 : decode cJ2_add 20 = .ok (.invokevirtual 131, 3) := dk_182 0 131 (dk_at dksJ2_add_0 20 rfl rfl)
theorem dJ2_add_23 : decode cJ2_add 23 = .ok (.iconst 1, 1) := dk_4 (dk_at dksJ2_add_0 23 rfl rfl)
theorem dJ2_add_24 : decode cJ2_add 24 = .ok (.ireturn, 1) := dk_172 (dk_at dksJ2_add_1 0 rfl rfl)
abbrev cJ2_add_2 : ByteArray := prog_41_method_24_code
def yJ2_add_2 : MethodName := ⟨RJ2, "add", "(Ljava/lang/Object;[Ljava/lang/Object;I)V"⟩
def dkwJ2_add_2_0 : List UInt8 := [29, 44, 190, 160, 0, 8, 42, 182, 0, 129, 77, 44, 29, 43, 83, 42, 29, 4, 96, 181, 0, 48, 177]
abbrev dktJ2_add_2_0 : List UInt8 := dkwJ2_add_2_0 ++ []
theorem dksJ2_add_2_0 : cJ2_add_2.data.toList.drop 0 = dktJ2_add_2_0 := by decide +kernel
theorem dJ2_add_2_0 : decode cJ2_add_2 0 = .ok (.iload_n 3, 1) := dk_29 (dk_at dksJ2_add_2_0 0 rfl rfl)
theorem dJ2_add_2_1 : decode cJ2_add_2 1 = .ok (.aload_n 2, 1) := dk_44 (dk_at dksJ2_add_2_0 1 rfl rfl)
theorem dJ2_add_2_2 : decode cJ2_add_2 2 = .ok (.arraylength, 1) := dk_190 (dk_at dksJ2_add_2_0 2 rfl rfl)
theorem dJ2_add_2_3 : decode cJ2_add_2 3 = .ok (.if_icmp .ne 8, 3) := dk_160 0 8 (dk_at dksJ2_add_2_0 3 rfl rfl)
theorem dJ2_add_2_6 : decode cJ2_add_2 6 = .ok (.aload_n 0, 1) := dk_42 (dk_at dksJ2_add_2_0 6 rfl rfl)
theorem dJ2_add_2_7 : decode cJ2_add_2 7 = .ok (.invokevirtual 129, 3) := dk_182 0 129 (dk_at dksJ2_add_2_0 7 rfl rfl)
theorem dJ2_add_2_10 : decode cJ2_add_2 10 = .ok (.astore_n 2, 1) := dk_77 (dk_at dksJ2_add_2_0 10 rfl rfl)
theorem dJ2_add_2_11 : decode cJ2_add_2 11 = .ok (.aload_n 2, 1) := dk_44 (dk_at dksJ2_add_2_0 11 rfl rfl)
theorem dJ2_add_2_12 : decode cJ2_add_2 12 = .ok (.iload_n 3, 1) := dk_29 (dk_at dksJ2_add_2_0 12 rfl rfl)
theorem dJ2_add_2_13 : decode cJ2_add_2 13 = .ok (.aload_n 1, 1) := dk_43 (dk_at dksJ2_add_2_0 13 rfl rfl)
theorem dJ2_add_2_14 : decode cJ2_add_2 14 = .ok (.aastore, 1) := dk_83 (dk_at dksJ2_add_2_0 14 rfl rfl)
theorem dJ2_add_2_15 : decode cJ2_add_2 15 = .ok (.aload_n 0, 1) := dk_42 (dk_at dksJ2_add_2_0 15 rfl rfl)
theorem dJ2_add_2_16 : decode cJ2_add_2 16 = .ok (.iload_n 3, 1) := dk_29 (dk_at dksJ2_add_2_0 16 rfl rfl)
theorem dJ2_add_2_17 : decode cJ2_add_2 17 = .ok (.iconst 1, 1) := dk_4 (dk_at dksJ2_add_2_0 17 rfl rfl)
theorem dJ2_add_2_18 : decode cJ2_add_2 18 = .ok (.iadd, 1) := dk_96 (dk_at dksJ2_add_2_0 18 rfl rfl)
theorem dJ2_add_2_19 : decode cJ2_add_2 19 = .ok (.putfield 48, 3) := dk_181 0 48 (dk_at dksJ2_add_2_0 19 rfl rfl)
theorem dJ2_add_2_22 : decode cJ2_add_2 22 = .ok (.return_, 1) := dk_177 (dk_at dksJ2_add_2_0 22 rfl rfl)
abbrev cJ2_grow : ByteArray := prog_41_method_7_code
def yJ2_grow : MethodName := ⟨RJ2, "grow", "()[Ljava/lang/Object;"⟩
def dkwJ2_grow_0 : List UInt8 := [42, 42, 180, 0, 48, 4, 96, 182, 0, 69, 176]
abbrev dktJ2_grow_0 : List UInt8 := dkwJ2_grow_0 ++ []
theorem dksJ2_grow_0 : cJ2_grow.data.toList.drop 0 = dktJ2_grow_0 := by decide +kernel
theorem dJ2_grow_0 : decode cJ2_grow 0 = .ok (.aload_n 0, 1) := dk_42 (dk_at dksJ2_grow_0 0 rfl rfl)
theorem dJ2_grow_1 : decode cJ2_grow 1 = .ok (.aload_n 0, 1) := dk_42 (dk_at dksJ2_grow_0 1 rfl rfl)
theorem dJ2_grow_2 : decode cJ2_grow 2 = .ok (.getfield 48, 3) := dk_180 0 48 (dk_at dksJ2_grow_0 2 rfl rfl)
theorem dJ2_grow_5 : decode cJ2_grow 5 = .ok (.iconst 1, 1) := dk_4 (dk_at dksJ2_grow_0 5 rfl rfl)
theorem dJ2_grow_6 : decode cJ2_grow 6 = .ok (.iadd, 1) := dk_96 (dk_at dksJ2_grow_0 6 rfl rfl)
theorem dJ2_grow_7 : decode cJ2_grow 7 = .ok (.invokevirtual 69, 3) := dk_182 0 69 (dk_at dksJ2_grow_0 7 rfl rfl)
theorem dJ2_grow_10 : decode cJ2_grow 10 = .ok (.areturn, 1) := dk_176 (dk_at dksJ2_grow_0 10 rfl rfl)
abbrev cJ2_grow_2 : ByteArray := prog_41_method_6_code
def yJ2_grow_2 : MethodName := ⟨RJ2, "grow", "(I)[Ljava/lang/Object;"⟩
def dkwJ2_grow_2_2 : List UInt8 := [27, 184, 0, 79, 189, 0, 7, 90, 181, 0, 9, 176]
abbrev dktJ2_grow_2_2 : List UInt8 := dkwJ2_grow_2_2 ++ []
def dkwJ2_grow_2_1 : List UInt8 := [28, 4, 122, 184, 0, 73, 62, 42, 42, 180, 0, 9, 29, 184, 0, 66, 90, 181, 0, 9, 176, 42, 16, 10]
abbrev dktJ2_grow_2_1 : List UInt8 := dkwJ2_grow_2_1 ++ dktJ2_grow_2_2
def dkwJ2_grow_2_0 : List UInt8 := [42, 180, 0, 9, 190, 61, 28, 157, 0, 13, 42, 180, 0, 9, 178, 0, 39, 165, 0, 28, 28, 27, 28, 100]
abbrev dktJ2_grow_2_0 : List UInt8 := dkwJ2_grow_2_0 ++ dktJ2_grow_2_1
theorem dksJ2_grow_2_0 : cJ2_grow_2.data.toList.drop 0 = dktJ2_grow_2_0 := by decide +kernel
theorem dksJ2_grow_2_1 : cJ2_grow_2.data.toList.drop 24 = dktJ2_grow_2_1 := dk_seg dksJ2_grow_2_0 24 rfl rfl
theorem dksJ2_grow_2_2 : cJ2_grow_2.data.toList.drop 48 = dktJ2_grow_2_2 := dk_seg dksJ2_grow_2_1 24 rfl rfl
theorem dJ2_grow_2_0 : decode cJ2_grow_2 0 = .ok (.aload_n 0, 1) := dk_42 (dk_at dksJ2_grow_2_0 0 rfl rfl)
theorem dJ2_grow_2_1 : decode cJ2_grow_2 1 = .ok (.getfield 9, 3) := dk_180 0 9 (dk_at dksJ2_grow_2_0 1 rfl rfl)
theorem dJ2_grow_2_4 : decode cJ2_grow_2 4 = .ok (.arraylength, 1) := dk_190 (dk_at dksJ2_grow_2_0 4 rfl rfl)
theorem dJ2_grow_2_5 : decode cJ2_grow_2 5 = .ok (.istore_n 2, 1) := dk_61 (dk_at dksJ2_grow_2_0 5 rfl rfl)
theorem dJ2_grow_2_6 : decode cJ2_grow_2 6 = .ok (.iload_n 2, 1) := dk_28 (dk_at dksJ2_grow_2_0 6 rfl rfl)
theorem dJ2_grow_2_7 : decode cJ2_grow_2 7 = .ok (.ifCond .gt 13, 3) := dk_157 0 13 (dk_at dksJ2_grow_2_0 7 rfl rfl)
theorem dJ2_grow_2_10 : decode cJ2_grow_2 10 = .ok (.aload_n 0, 1) := dk_42 (dk_at dksJ2_grow_2_0 10 rfl rfl)
theorem dJ2_grow_2_11 : decode cJ2_grow_2 11 = .ok (.getfield 9, 3) := dk_180 0 9 (dk_at dksJ2_grow_2_0 11 rfl rfl)
theorem dJ2_grow_2_14 : decode cJ2_grow_2 14 = .ok (.getstatic 39, 3) := dk_178 0 39 (dk_at dksJ2_grow_2_0 14 rfl rfl)
theorem dJ2_grow_2_17 : decode cJ2_grow_2 17 = .ok (.if_acmp .eq 28, 3) := dk_165 0 28 (dk_at dksJ2_grow_2_0 17 rfl rfl)
theorem dJ2_grow_2_20 : decode cJ2_grow_2 20 = .ok (.iload_n 2, 1) := dk_28 (dk_at dksJ2_grow_2_0 20 rfl rfl)
theorem dJ2_grow_2_21 : decode cJ2_grow_2 21 = .ok (.iload_n 1, 1) := dk_27 (dk_at dksJ2_grow_2_0 21 rfl rfl)
theorem dJ2_grow_2_22 : decode cJ2_grow_2 22 = .ok (.iload_n 2, 1) := dk_28 (dk_at dksJ2_grow_2_0 22 rfl rfl)
theorem dJ2_grow_2_23 : decode cJ2_grow_2 23 = .ok (.isub, 1) := dk_100 (dk_at dksJ2_grow_2_0 23 rfl rfl)
theorem dJ2_grow_2_24 : decode cJ2_grow_2 24 = .ok (.iload_n 2, 1) := dk_28 (dk_at dksJ2_grow_2_1 0 rfl rfl)
theorem dJ2_grow_2_25 : decode cJ2_grow_2 25 = .ok (.iconst 1, 1) := dk_4 (dk_at dksJ2_grow_2_1 1 rfl rfl)
theorem dJ2_grow_2_26 : decode cJ2_grow_2 26 = .ok (.ishr, 1) := dk_122 (dk_at dksJ2_grow_2_1 2 rfl rfl)
theorem dJ2_grow_2_27 : decode cJ2_grow_2 27 = .ok (.invokestatic 73, 3) := dk_184 0 73 (dk_at dksJ2_grow_2_1 3 rfl rfl)
theorem dJ2_grow_2_30 : decode cJ2_grow_2 30 = .ok (.istore_n 3, 1) := dk_62 (dk_at dksJ2_grow_2_1 6 rfl rfl)
theorem dJ2_grow_2_31 : decode cJ2_grow_2 31 = .ok (.aload_n 0, 1) := dk_42 (dk_at dksJ2_grow_2_1 7 rfl rfl)
theorem dJ2_grow_2_32 : decode cJ2_grow_2 32 = .ok (.aload_n 0, 1) := dk_42 (dk_at dksJ2_grow_2_1 8 rfl rfl)
theorem dJ2_grow_2_33 : decode cJ2_grow_2 33 = .ok (.getfield 9, 3) := dk_180 0 9 (dk_at dksJ2_grow_2_1 9 rfl rfl)
theorem dJ2_grow_2_36 : decode cJ2_grow_2 36 = .ok (.iload_n 3, 1) := dk_29 (dk_at dksJ2_grow_2_1 12 rfl rfl)
theorem dJ2_grow_2_37 : decode cJ2_grow_2 37 = .ok (.invokestatic 66, 3) := dk_184 0 66 (dk_at dksJ2_grow_2_1 13 rfl rfl)
theorem dJ2_grow_2_40 : decode cJ2_grow_2 40 = .ok (.dup_x1, 1) := dk_90 (dk_at dksJ2_grow_2_1 16 rfl rfl)
theorem dJ2_grow_2_41 : decode cJ2_grow_2 41 = .ok (.putfield 9, 3) := dk_181 0 9 (dk_at dksJ2_grow_2_1 17 rfl rfl)
theorem dJ2_grow_2_44 : decode cJ2_grow_2 44 = .ok (.areturn, 1) := dk_176 (dk_at dksJ2_grow_2_1 20 rfl rfl)
theorem dJ2_grow_2_45 : decode cJ2_grow_2 45 = .ok (.aload_n 0, 1) := dk_42 (dk_at dksJ2_grow_2_1 21 rfl rfl)
theorem dJ2_grow_2_46 : decode cJ2_grow_2 46 = .ok (.bipush 10, 2) := dk_16 10 (dk_at dksJ2_grow_2_1 22 rfl rfl)
theorem dJ2_grow_2_48 : decode cJ2_grow_2 48 = .ok (.iload_n 1, 1) := dk_27 (dk_at dksJ2_grow_2_2 0 rfl rfl)
theorem dJ2_grow_2_49 : decode cJ2_grow_2 49 = .ok (.invokestatic 79, 3) := dk_184 0 79 (dk_at dksJ2_grow_2_2 1 rfl rfl)
theorem dJ2_grow_2_52 : decode cJ2_grow_2 52 = .ok (.anewarray 7, 3) := dk_189 0 7 (dk_at dksJ2_grow_2_2 4 rfl rfl)
theorem dJ2_grow_2_55 : decode cJ2_grow_2 55 = .ok (.dup_x1, 1) := dk_90 (dk_at dksJ2_grow_2_2 7 rfl rfl)
theorem dJ2_grow_2_56 : decode cJ2_grow_2 56 = .ok (.putfield 9, 3) := dk_181 0 9 (dk_at dksJ2_grow_2_2 8 rfl rfl)
theorem dJ2_grow_2_59 : decode cJ2_grow_2 59 = .ok (.areturn, 1) := dk_176 (dk_at dksJ2_grow_2_2 11 rfl rfl)
abbrev cJ2_isEmpty : ByteArray := prog_41_method_9_code
def yJ2_isEmpty : MethodName := ⟨RJ2, "isEmpty", "()Z"⟩
def dkwJ2_isEmpty_0 : List UInt8 := [42, 180, 0, 48, 154, 0, 7, 4, 167, 0, 4, 3, 172]
abbrev dktJ2_isEmpty_0 : List UInt8 := dkwJ2_isEmpty_0 ++ []
theorem dksJ2_isEmpty_0 : cJ2_isEmpty.data.toList.drop 0 = dktJ2_isEmpty_0 := by decide +kernel
theorem dJ2_isEmpty_0 : decode cJ2_isEmpty 0 = .ok (.aload_n 0, 1) := dk_42 (dk_at dksJ2_isEmpty_0 0 rfl rfl)
theorem dJ2_isEmpty_1 : decode cJ2_isEmpty 1 = .ok (.getfield 48, 3) := dk_180 0 48 (dk_at dksJ2_isEmpty_0 1 rfl rfl)
theorem dJ2_isEmpty_4 : decode cJ2_isEmpty 4 = .ok (.ifCond .ne 7, 3) := dk_154 0 7 (dk_at dksJ2_isEmpty_0 4 rfl rfl)
theorem dJ2_isEmpty_7 : decode cJ2_isEmpty 7 = .ok (.iconst 1, 1) := dk_4 (dk_at dksJ2_isEmpty_0 7 rfl rfl)
theorem dJ2_isEmpty_8 : decode cJ2_isEmpty 8 = .ok (.goto 4, 3) := dk_167 0 4 (dk_at dksJ2_isEmpty_0 8 rfl rfl)
theorem dJ2_isEmpty_11 : decode cJ2_isEmpty 11 = .ok (.iconst 0, 1) := dk_3 (dk_at dksJ2_isEmpty_0 11 rfl rfl)
theorem dJ2_isEmpty_12 : decode cJ2_isEmpty 12 = .ok (.ireturn, 1) := dk_172 (dk_at dksJ2_isEmpty_0 12 rfl rfl)
abbrev cJ2_remove : ByteArray := prog_41_method_29_code
def yJ2_remove : MethodName := ⟨RJ2, "remove", "(I)Ljava/lang/Object;"⟩
def dkwJ2_remove_1 : List UInt8 := [45, 176]
abbrev dktJ2_remove_1 : List UInt8 := dkwJ2_remove_1 ++ []
def dkwJ2_remove_0 : List UInt8 := [27, 42, 180, 0, 48, 184, 0, 118, 87, 42, 180, 0, 9, 77, 44, 27, 50, 78, 42, 44, 27, 182, 0, 144]
abbrev dktJ2_remove_0 : List UInt8 := dkwJ2_remove_0 ++ dktJ2_remove_1
theorem dksJ2_remove_0 : cJ2_remove.data.toList.drop 0 = dktJ2_remove_0 := by decide +kernel
theorem dksJ2_remove_1 : cJ2_remove.data.toList.drop 24 = dktJ2_remove_1 := dk_seg dksJ2_remove_0 24 rfl rfl
theorem dJ2_remove_0 : decode cJ2_remove 0 = .ok (.iload_n 1, 1) := dk_27 (dk_at dksJ2_remove_0 0 rfl rfl)
theorem dJ2_remove_1 : decode cJ2_remove 1 = .ok (.aload_n 0, 1) := dk_42 (dk_at dksJ2_remove_0 1 rfl rfl)
theorem dJ2_remove_2 : decode cJ2_remove 2 = .ok (.getfield 48, 3) := dk_180 0 48 (dk_at dksJ2_remove_0 2 rfl rfl)
theorem dJ2_remove_5 : decode cJ2_remove 5 = .ok (.invokestatic 118, 3) := dk_184 0 118 (dk_at dksJ2_remove_0 5 rfl rfl)
theorem dJ2_remove_8 : decode cJ2_remove 8 = .ok (.pop, 1) := dk_87 (dk_at dksJ2_remove_0 8 rfl rfl)
theorem dJ2_remove_9 : decode cJ2_remove 9 = .ok (.aload_n 0, 1) := dk_42 (dk_at dksJ2_remove_0 9 rfl rfl)
theorem dJ2_remove_10 : decode cJ2_remove 10 = .ok (.getfield 9, 3) := dk_180 0 9 (dk_at dksJ2_remove_0 10 rfl rfl)
theorem dJ2_remove_13 : decode cJ2_remove 13 = .ok (.astore_n 2, 1) := dk_77 (dk_at dksJ2_remove_0 13 rfl rfl)
theorem dJ2_remove_14 : decode cJ2_remove 14 = .ok (.aload_n 2, 1) := dk_44 (dk_at dksJ2_remove_0 14 rfl rfl)
theorem dJ2_remove_15 : decode cJ2_remove 15 = .ok (.iload_n 1, 1) := dk_27 (dk_at dksJ2_remove_0 15 rfl rfl)
theorem dJ2_remove_16 : decode cJ2_remove 16 = .ok (.aaload, 1) := dk_50 (dk_at dksJ2_remove_0 16 rfl rfl)
theorem dJ2_remove_17 : decode cJ2_remove 17 = .ok (.astore_n 3, 1) := dk_78 (dk_at dksJ2_remove_0 17 rfl rfl)
theorem dJ2_remove_18 : decode cJ2_remove 18 = .ok (.aload_n 0, 1) := dk_42 (dk_at dksJ2_remove_0 18 rfl rfl)
theorem dJ2_remove_19 : decode cJ2_remove 19 = .ok (.aload_n 2, 1) := dk_44 (dk_at dksJ2_remove_0 19 rfl rfl)
theorem dJ2_remove_20 : decode cJ2_remove 20 = .ok (.iload_n 1, 1) := dk_27 (dk_at dksJ2_remove_0 20 rfl rfl)
theorem dJ2_remove_21 : decode cJ2_remove 21 = .ok (.invokevirtual 144, 3) := dk_182 0 144 (dk_at dksJ2_remove_0 21 rfl rfl)
theorem dJ2_remove_24 : decode cJ2_remove 24 = .ok (.aload_n 3, 1) := dk_45 (dk_at dksJ2_remove_1 0 rfl rfl)
theorem dJ2_remove_25 : decode cJ2_remove 25 = .ok (.areturn, 1) := dk_176 (dk_at dksJ2_remove_1 1 rfl rfl)
abbrev cJ2_fastRemove : ByteArray := prog_41_method_39_code
def yJ2_fastRemove : MethodName := ⟨RJ2, "fastRemove", "([Ljava/lang/Object;I)V"⟩
def dkwJ2_fastRemove_1 : List UInt8 := [4, 96, 43, 28, 29, 28, 100, 184, 0, 112, 43, 42, 29, 90, 181, 0, 48, 1, 83, 177]
abbrev dktJ2_fastRemove_1 : List UInt8 := dkwJ2_fastRemove_1 ++ []
def dkwJ2_fastRemove_0 : List UInt8 := [42, 89, 180, 0, 63, 4, 96, 181, 0, 63, 42, 180, 0, 48, 4, 100, 89, 62, 28, 164, 0, 15, 43, 28]
abbrev dktJ2_fastRemove_0 : List UInt8 := dkwJ2_fastRemove_0 ++ dktJ2_fastRemove_1
theorem dksJ2_fastRemove_0 : cJ2_fastRemove.data.toList.drop 0 = dktJ2_fastRemove_0 := by decide +kernel
theorem dksJ2_fastRemove_1 : cJ2_fastRemove.data.toList.drop 24 = dktJ2_fastRemove_1 := dk_seg dksJ2_fastRemove_0 24 rfl rfl
theorem dJ2_fastRemove_0 : decode cJ2_fastRemove 0 = .ok (.aload_n 0, 1) := dk_42 (dk_at dksJ2_fastRemove_0 0 rfl rfl)
theorem dJ2_fastRemove_1 : decode cJ2_fastRemove 1 = .ok (.dup, 1) := dk_89 (dk_at dksJ2_fastRemove_0 1 rfl rfl)
theorem dJ2_fastRemove_2 : decode cJ2_fastRemove 2 = .ok (.getfield 63, 3) := dk_180 0 63 (dk_at dksJ2_fastRemove_0 2 rfl rfl)
theorem dJ2_fastRemove_5 : decode cJ2_fastRemove 5 = .ok (.iconst 1, 1) := dk_4 (dk_at dksJ2_fastRemove_0 5 rfl rfl)
theorem dJ2_fastRemove_6 : decode cJ2_fastRemove 6 = .ok (.iadd, 1) := dk_96 (dk_at dksJ2_fastRemove_0 6 rfl rfl)
theorem dJ2_fastRemove_7 : decode cJ2_fastRemove 7 = .ok (.putfield 63, 3) := dk_181 0 63 (dk_at dksJ2_fastRemove_0 7 rfl rfl)
theorem dJ2_fastRemove_10 : decode cJ2_fastRemove 10 = .ok (.aload_n 0, 1) := dk_42 (dk_at dksJ2_fastRemove_0 10 rfl rfl)
theorem dJ2_fastRemove_11 : decode cJ2_fastRemove 11 = .ok (.getfield 48, 3) := dk_180 0 48 (dk_at dksJ2_fastRemove_0 11 rfl rfl)
theorem dJ2_fastRemove_14 : decode cJ2_fastRemove 14 = .ok (.iconst 1, 1) := dk_4 (dk_at dksJ2_fastRemove_0 14 rfl rfl)
theorem dJ2_fastRemove_15 : decode cJ2_fastRemove 15 = .ok (.isub, 1) := dk_100 (dk_at dksJ2_fastRemove_0 15 rfl rfl)
theorem dJ2_fastRemove_16 : decode cJ2_fastRemove 16 = .ok (.dup, 1) := dk_89 (dk_at dksJ2_fastRemove_0 16 rfl rfl)
theorem dJ2_fastRemove_17 : decode cJ2_fastRemove 17 = .ok (.istore_n 3, 1) := dk_62 (dk_at dksJ2_fastRemove_0 17 rfl rfl)
theorem dJ2_fastRemove_18 : decode cJ2_fastRemove 18 = .ok (.iload_n 2, 1) := dk_28 (dk_at dksJ2_fastRemove_0 18 rfl rfl)
theorem dJ2_fastRemove_19 : decode cJ2_fastRemove 19 = .ok (.if_icmp .le 15, 3) := dk_164 0 15 (dk_at dksJ2_fastRemove_0 19 rfl rfl)
theorem dJ2_fastRemove_22 : decode cJ2_fastRemove 22 = .ok (.aload_n 1, 1) := dk_43 (dk_at dksJ2_fastRemove_0 22 rfl rfl)
theorem dJ2_fastRemove_23 : decode cJ2_fastRemove 23 = .ok (.iload_n 2, 1) := dk_28 (dk_at dksJ2_fastRemove_0 23 rfl rfl)
theorem dJ2_fastRemove_24 : decode cJ2_fastRemove 24 = .ok (.iconst 1, 1) := dk_4 (dk_at dksJ2_fastRemove_1 0 rfl rfl)
theorem dJ2_fastRemove_25 : decode cJ2_fastRemove 25 = .ok (.iadd, 1) := dk_96 (dk_at dksJ2_fastRemove_1 1 rfl rfl)
theorem dJ2_fastRemove_26 : decode cJ2_fastRemove 26 = .ok (.aload_n 1, 1) := dk_43 (dk_at dksJ2_fastRemove_1 2 rfl rfl)
theorem dJ2_fastRemove_27 : decode cJ2_fastRemove 27 = .ok (.iload_n 2, 1) := dk_28 (dk_at dksJ2_fastRemove_1 3 rfl rfl)
theorem dJ2_fastRemove_28 : decode cJ2_fastRemove 28 = .ok (.iload_n 3, 1) := dk_29 (dk_at dksJ2_fastRemove_1 4 rfl rfl)
theorem dJ2_fastRemove_29 : decode cJ2_fastRemove 29 = .ok (.iload_n 2, 1) := dk_28 (dk_at dksJ2_fastRemove_1 5 rfl rfl)
theorem dJ2_fastRemove_30 : decode cJ2_fastRemove 30 = .ok (.isub, 1) := dk_100 (dk_at dksJ2_fastRemove_1 6 rfl rfl)
theorem dJ2_fastRemove_31 : decode cJ2_fastRemove 31 = .ok (.invokestatic 112, 3) := dk_184 0 112 (dk_at dksJ2_fastRemove_1 7 rfl rfl)
theorem dJ2_fastRemove_34 : decode cJ2_fastRemove 34 = .ok (.aload_n 1, 1) := dk_43 (dk_at dksJ2_fastRemove_1 10 rfl rfl)
theorem dJ2_fastRemove_35 : decode cJ2_fastRemove 35 = .ok (.aload_n 0, 1) := dk_42 (dk_at dksJ2_fastRemove_1 11 rfl rfl)
theorem dJ2_fastRemove_36 : decode cJ2_fastRemove 36 = .ok (.iload_n 3, 1) := dk_29 (dk_at dksJ2_fastRemove_1 12 rfl rfl)
theorem dJ2_fastRemove_37 : decode cJ2_fastRemove 37 = .ok (.dup_x1, 1) := dk_90 (dk_at dksJ2_fastRemove_1 13 rfl rfl)
theorem dJ2_fastRemove_38 : decode cJ2_fastRemove 38 = .ok (.putfield 48, 3) := dk_181 0 48 (dk_at dksJ2_fastRemove_1 14 rfl rfl)
theorem dJ2_fastRemove_41 : decode cJ2_fastRemove 41 = .ok (.aconst_null, 1) := dk_1 (dk_at dksJ2_fastRemove_1 17 rfl rfl)
theorem dJ2_fastRemove_42 : decode cJ2_fastRemove 42 = .ok (.aastore, 1) := dk_83 (dk_at dksJ2_fastRemove_1 18 rfl rfl)
theorem dJ2_fastRemove_43 : decode cJ2_fastRemove 43 = .ok (.return_, 1) := dk_177 (dk_at dksJ2_fastRemove_1 19 rfl rfl)
abbrev cJ2_addAll : ByteArray := prog_41_method_41_code
def yJ2_addAll : MethodName := ⟨RJ2, "addAll", "(Ljava/util/Collection;)Z"⟩
def dkwJ2_addAll_3 : List UInt8 := [181, 0, 48, 4, 172]
abbrev dktJ2_addAll_3 : List UInt8 := dkwJ2_addAll_3 ++ []
def dkwJ2_addAll_2 : List UInt8 := [21, 5, 29, 96, 182, 0, 69, 58, 4, 44, 3, 25, 4, 21, 5, 29, 184, 0, 112, 42, 21, 5, 29, 96]
abbrev dktJ2_addAll_2 : List UInt8 := dkwJ2_addAll_2 ++ dktJ2_addAll_3
def dkwJ2_addAll_1 : List UInt8 := [3, 172, 29, 42, 180, 0, 9, 89, 58, 4, 190, 42, 180, 0, 48, 89, 54, 5, 100, 164, 0, 13, 42]
abbrev dktJ2_addAll_1 : List UInt8 := dkwJ2_addAll_1 ++ dktJ2_addAll_2
def dkwJ2_addAll_0 : List UInt8 := [43, 185, 0, 42, 1, 0, 77, 42, 89, 180, 0, 63, 4, 96, 181, 0, 63, 44, 190, 62, 29, 154, 0, 5]
abbrev dktJ2_addAll_0 : List UInt8 := dkwJ2_addAll_0 ++ dktJ2_addAll_1
theorem dksJ2_addAll_0 : cJ2_addAll.data.toList.drop 0 = dktJ2_addAll_0 := by decide +kernel
theorem dksJ2_addAll_1 : cJ2_addAll.data.toList.drop 24 = dktJ2_addAll_1 := dk_seg dksJ2_addAll_0 24 rfl rfl
theorem dksJ2_addAll_2 : cJ2_addAll.data.toList.drop 47 = dktJ2_addAll_2 := dk_seg dksJ2_addAll_1 23 rfl rfl
theorem dksJ2_addAll_3 : cJ2_addAll.data.toList.drop 71 = dktJ2_addAll_3 := dk_seg dksJ2_addAll_2 24 rfl rfl
theorem dJ2_addAll_0 : decode cJ2_addAll 0 = .ok (.aload_n 1, 1) := dk_43 (dk_at dksJ2_addAll_0 0 rfl rfl)
theorem dJ2_addAll_1 : decode cJ2_addAll 1 = .ok (.invokeinterface 42 1, 5) := by decide +kernel
theorem dJ2_addAll_6 : decode cJ2_addAll 6 = .ok (.astore_n 2, 1) := dk_77 (dk_at dksJ2_addAll_0 6 rfl rfl)
theorem dJ2_addAll_7 : decode cJ2_addAll 7 = .ok (.aload_n 0, 1) := dk_42 (dk_at dksJ2_addAll_0 7 rfl rfl)
theorem dJ2_addAll_8 : decode cJ2_addAll 8 = .ok (.dup, 1) := dk_89 (dk_at dksJ2_addAll_0 8 rfl rfl)
theorem dJ2_addAll_9 : decode cJ2_addAll 9 = .ok (.getfield 63, 3) := dk_180 0 63 (dk_at dksJ2_addAll_0 9 rfl rfl)
theorem dJ2_addAll_12 : decode cJ2_addAll 12 = .ok (.iconst 1, 1) := dk_4 (dk_at dksJ2_addAll_0 12 rfl rfl)
theorem dJ2_addAll_13 : decode cJ2_addAll 13 = .ok (.iadd, 1) := dk_96 (dk_at dksJ2_addAll_0 13 rfl rfl)
theorem dJ2_addAll_14 : decode cJ2_addAll 14 = .ok (.putfield 63, 3) := dk_181 0 63 (dk_at dksJ2_addAll_0 14 rfl rfl)
theorem dJ2_addAll_17 : decode cJ2_addAll 17 = .ok (.aload_n 2, 1) := dk_44 (dk_at dksJ2_addAll_0 17 rfl rfl)
theorem dJ2_addAll_18 : decode cJ2_addAll 18 = .ok (.arraylength, 1) := dk_190 (dk_at dksJ2_addAll_0 18 rfl rfl)
theorem dJ2_addAll_19 : decode cJ2_addAll 19 = .ok (.istore_n 3, 1) := dk_62 (dk_at dksJ2_addAll_0 19 rfl rfl)
theorem dJ2_addAll_20 : decode cJ2_addAll 20 = .ok (.iload_n 3, 1) := dk_29 (dk_at dksJ2_addAll_0 20 rfl rfl)
theorem dJ2_addAll_21 : decode cJ2_addAll 21 = .ok (.ifCond .ne 5, 3) := dk_154 0 5 (dk_at dksJ2_addAll_0 21 rfl rfl)
theorem dJ2_addAll_24 : decode cJ2_addAll 24 = .ok (.iconst 0, 1) := dk_3 (dk_at dksJ2_addAll_1 0 rfl rfl)
theorem dJ2_addAll_25 : decode cJ2_addAll 25 = .ok (.ireturn, 1) := dk_172 (dk_at dksJ2_addAll_1 1 rfl rfl)
theorem dJ2_addAll_26 : decode cJ2_addAll 26 = .ok (.iload_n 3, 1) := dk_29 (dk_at dksJ2_addAll_1 2 rfl rfl)
theorem dJ2_addAll_27 : decode cJ2_addAll 27 = .ok (.aload_n 0, 1) := dk_42 (dk_at dksJ2_addAll_1 3 rfl rfl)
theorem dJ2_addAll_28 : decode cJ2_addAll 28 = .ok (.getfield 9, 3) := dk_180 0 9 (dk_at dksJ2_addAll_1 4 rfl rfl)
theorem dJ2_addAll_31 : decode cJ2_addAll 31 = .ok (.dup, 1) := dk_89 (dk_at dksJ2_addAll_1 7 rfl rfl)
theorem dJ2_addAll_32 : decode cJ2_addAll 32 = .ok (.astore 4, 2) := dk_58 4 (dk_at dksJ2_addAll_1 8 rfl rfl)
theorem dJ2_addAll_34 : decode cJ2_addAll 34 = .ok (.arraylength, 1) := dk_190 (dk_at dksJ2_addAll_1 10 rfl rfl)
theorem dJ2_addAll_35 : decode cJ2_addAll 35 = .ok (.aload_n 0, 1) := dk_42 (dk_at dksJ2_addAll_1 11 rfl rfl)
theorem dJ2_addAll_36 : decode cJ2_addAll 36 = .ok (.getfield 48, 3) := dk_180 0 48 (dk_at dksJ2_addAll_1 12 rfl rfl)
theorem dJ2_addAll_39 : decode cJ2_addAll 39 = .ok (.dup, 1) := dk_89 (dk_at dksJ2_addAll_1 15 rfl rfl)
theorem dJ2_addAll_40 : decode cJ2_addAll 40 = .ok (.istore 5, 2) := dk_54 5 (dk_at dksJ2_addAll_1 16 rfl rfl)
theorem dJ2_addAll_42 : decode cJ2_addAll 42 = .ok (.isub, 1) := dk_100 (dk_at dksJ2_addAll_1 18 rfl rfl)
theorem dJ2_addAll_43 : decode cJ2_addAll 43 = .ok (.if_icmp .le 13, 3) := dk_164 0 13 (dk_at dksJ2_addAll_1 19 rfl rfl)
theorem dJ2_addAll_46 : decode cJ2_addAll 46 = .ok (.aload_n 0, 1) := dk_42 (dk_at dksJ2_addAll_1 22 rfl rfl)
theorem dJ2_addAll_47 : decode cJ2_addAll 47 = .ok (.iload 5, 2) := dk_21 5 (dk_at dksJ2_addAll_2 0 rfl rfl)
theorem dJ2_addAll_49 : decode cJ2_addAll 49 = .ok (.iload_n 3, 1) := dk_29 (dk_at dksJ2_addAll_2 2 rfl rfl)
theorem dJ2_addAll_50 : decode cJ2_addAll 50 = .ok (.iadd, 1) := dk_96 (dk_at dksJ2_addAll_2 3 rfl rfl)
theorem dJ2_addAll_51 : decode cJ2_addAll 51 = .ok (.invokevirtual 69, 3) := dk_182 0 69 (dk_at dksJ2_addAll_2 4 rfl rfl)
theorem dJ2_addAll_54 : decode cJ2_addAll 54 = .ok (.astore 4, 2) := dk_58 4 (dk_at dksJ2_addAll_2 7 rfl rfl)
theorem dJ2_addAll_56 : decode cJ2_addAll 56 = .ok (.aload_n 2, 1) := dk_44 (dk_at dksJ2_addAll_2 9 rfl rfl)
theorem dJ2_addAll_57 : decode cJ2_addAll 57 = .ok (.iconst 0, 1) := dk_3 (dk_at dksJ2_addAll_2 10 rfl rfl)
theorem dJ2_addAll_58 : decode cJ2_addAll 58 = .ok (.aload 4, 2) := dk_25 4 (dk_at dksJ2_addAll_2 11 rfl rfl)
theorem dJ2_addAll_60 : decode cJ2_addAll 60 = .ok (.iload 5, 2) := dk_21 5 (dk_at dksJ2_addAll_2 13 rfl rfl)
theorem dJ2_addAll_62 : decode cJ2_addAll 62 = .ok (.iload_n 3, 1) := dk_29 (dk_at dksJ2_addAll_2 15 rfl rfl)
theorem dJ2_addAll_63 : decode cJ2_addAll 63 = .ok (.invokestatic 112, 3) := dk_184 0 112 (dk_at dksJ2_addAll_2 16 rfl rfl)
theorem dJ2_addAll_66 : decode cJ2_addAll 66 = .ok (.aload_n 0, 1) := dk_42 (dk_at dksJ2_addAll_2 19 rfl rfl)
theorem dJ2_addAll_67 : decode cJ2_addAll 67 = .ok (.iload 5, 2) := dk_21 5 (dk_at dksJ2_addAll_2 20 rfl rfl)
theorem dJ2_addAll_69 : decode cJ2_addAll 69 = .ok (.iload_n 3, 1) := dk_29 (dk_at dksJ2_addAll_2 22 rfl rfl)
theorem dJ2_addAll_70 : decode cJ2_addAll 70 = .ok (.iadd, 1) := dk_96 (dk_at dksJ2_addAll_2 23 rfl rfl)
theorem dJ2_addAll_71 : decode cJ2_addAll 71 = .ok (.putfield 48, 3) := dk_181 0 48 (dk_at dksJ2_addAll_3 0 rfl rfl)
theorem dJ2_addAll_74 : decode cJ2_addAll 74 = .ok (.iconst 1, 1) := dk_4 (dk_at dksJ2_addAll_3 3 rfl rfl)
theorem dJ2_addAll_75 : decode cJ2_addAll 75 = .ok (.ireturn, 1) := dk_172 (dk_at dksJ2_addAll_3 4 rfl rfl)
abbrev cJ2_toArray : ByteArray := prog_41_method_16_code
def yJ2_toArray : MethodName := ⟨RJ2, "toArray", "()[Ljava/lang/Object;"⟩
def dkwJ2_toArray_0 : List UInt8 := [42, 180, 0, 9, 42, 180, 0, 48, 184, 0, 66, 176]
abbrev dktJ2_toArray_0 : List UInt8 := dkwJ2_toArray_0 ++ []
theorem dksJ2_toArray_0 : cJ2_toArray.data.toList.drop 0 = dktJ2_toArray_0 := by decide +kernel
theorem dJ2_toArray_0 : decode cJ2_toArray 0 = .ok (.aload_n 0, 1) := dk_42 (dk_at dksJ2_toArray_0 0 rfl rfl)
theorem dJ2_toArray_1 : decode cJ2_toArray 1 = .ok (.getfield 9, 3) := dk_180 0 9 (dk_at dksJ2_toArray_0 1 rfl rfl)
theorem dJ2_toArray_4 : decode cJ2_toArray 4 = .ok (.aload_n 0, 1) := dk_42 (dk_at dksJ2_toArray_0 4 rfl rfl)
theorem dJ2_toArray_5 : decode cJ2_toArray 5 = .ok (.getfield 48, 3) := dk_180 0 48 (dk_at dksJ2_toArray_0 5 rfl rfl)
theorem dJ2_toArray_8 : decode cJ2_toArray 8 = .ok (.invokestatic 66, 3) := dk_184 0 66 (dk_at dksJ2_toArray_0 8 rfl rfl)
theorem dJ2_toArray_11 : decode cJ2_toArray 11 = .ok (.areturn, 1) := dk_176 (dk_at dksJ2_toArray_0 11 rfl rfl)
theorem q141 : (Jvm.Cond.initialized "java/util/ArrayList") ∈ lw_all := lw_g (lw_at lw_m1 5 rfl) rfl
theorem q189 : (Jvm.Cond.instantiable "java/util/ArrayList" (3 : Nat)) ∈ lw_all := lw_g (lw_at lw_m1 53 rfl) rfl
theorem q191 : (Jvm.Cond.instanceMethod ({ cls := "java/util/ArrayList", name := "<init>", desc := "(I)V" } : Jvm.MethodName)) ∈ lw_all := lw_g (lw_at lw_m1 55 rfl) rfl
theorem q192 : (Jvm.Cond.code ({ cls := "java/util/ArrayList", name := "<init>", desc := "(I)V" } : Jvm.MethodName) prog_41_method_1_code (2 : Nat) (Option.none : Option Jvm.ClassFile.FieldType)) ∈ lw_all := lw_g (lw_at lw_m1 56 rfl) rfl
theorem q193 : (Jvm.Cond.methodLink "java/util/ArrayList" (1 : Nat) ({ cls := "java/util/AbstractList", name := "<init>", desc := "()V" } : Jvm.MethodName)) ∈ lw_all := lw_g (lw_at lw_m1 57 rfl) rfl
theorem q200 : (Jvm.Cond.classLink "java/util/ArrayList" (7 : Nat) "java/lang/Object") ∈ lw_all := lw_g (lw_at lw_m1 64 rfl) rfl
theorem q202 : (Jvm.Cond.fieldLink "java/util/ArrayList" (15 : Nat) "java/util/ArrayList" "EMPTY_ELEMENTDATA" "[Ljava/lang/Object;") ∈ lw_all := lw_g (lw_at lw_m1 66 rfl) rfl
theorem q203 : (Jvm.Cond.laysStatic "java/util/ArrayList" "EMPTY_ELEMENTDATA" "[Ljava/lang/Object;") ∈ lw_tbl := lw_at lw_m1 67 rfl
theorem q204 : (Jvm.Cond.fieldLink "java/util/ArrayList" (9 : Nat) "java/util/ArrayList" "elementData" "[Ljava/lang/Object;") ∈ lw_all := lw_g (lw_at lw_m1 68 rfl) rfl
theorem q205 : (Jvm.Cond.fieldLink "java/util/ArrayList" (48 : Nat) "java/util/ArrayList" "size" "I") ∈ lw_all := lw_g (lw_at lw_m1 69 rfl) rfl
theorem q207 : (Jvm.Cond.fieldLink "java/util/ArrayList" (63 : Nat) "java/util/ArrayList" "modCount" "I") ∈ lw_all := lw_g (lw_at lw_m1 71 rfl) rfl
theorem q208 : (Jvm.Cond.sameField "java/util/ArrayList" "java/util/AbstractList" "modCount" "I") ∈ lw_all := lw_g (lw_at lw_m1 72 rfl) rfl
theorem q209 : (Jvm.Cond.lays "java/util/ArrayList" "java/util/ArrayList" "elementData" "[Ljava/lang/Object;") ∈ lw_all := lw_g (lw_at lw_m1 73 rfl) rfl
theorem q210 : (Jvm.Cond.soleField "java/util/ArrayList" "elementData") ∈ lw_all := lw_g (lw_at lw_m1 74 rfl) rfl
theorem q211 : (Jvm.Cond.lays "java/util/ArrayList" "java/util/ArrayList" "size" "I") ∈ lw_all := lw_g (lw_at lw_m1 75 rfl) rfl
theorem q212 : (Jvm.Cond.soleField "java/util/ArrayList" "size") ∈ lw_all := lw_g (lw_at lw_m1 76 rfl) rfl
theorem q213 : (Jvm.Cond.lays "java/util/ArrayList" "java/util/AbstractList" "modCount" "I") ∈ lw_all := lw_g (lw_at lw_m1 77 rfl) rfl
theorem q215 : (Jvm.Cond.superclass "java/util/ArrayList" "java/util/AbstractList") ∈ lw_all := lw_g (lw_at lw_m1 79 rfl) rfl
theorem q428 : (Jvm.Cond.instanceMethod ({ cls := "java/util/ArrayList", name := "size", desc := "()I" } : Jvm.MethodName)) ∈ lw_all := lw_g (lw_at lw_m2 52 rfl) rfl
theorem q429 : (Jvm.Cond.selects "java/util/ArrayList" ({ cls := "java/util/ArrayList", name := "size", desc := "()I" } : Jvm.MethodName) ({ cls := "java/util/ArrayList", name := "size", desc := "()I" } : Jvm.MethodName)) ∈ lw_all := lw_g (lw_at lw_m2 53 rfl) rfl
theorem q430 : (Jvm.Cond.code ({ cls := "java/util/ArrayList", name := "size", desc := "()I" } : Jvm.MethodName) prog_41_method_8_code (1 : Nat) (Option.some Jvm.ClassFile.FieldType.int)) ∈ lw_all := lw_g (lw_at lw_m2 54 rfl) rfl
theorem q436 : (Jvm.Cond.instanceMethod ({ cls := "java/util/ArrayList", name := "get", desc := "(I)Ljava/lang/Object;" } : Jvm.MethodName)) ∈ lw_all := lw_g (lw_at lw_m2 60 rfl) rfl
theorem q437 : (Jvm.Cond.selects "java/util/ArrayList" ({ cls := "java/util/ArrayList", name := "get", desc := "(I)Ljava/lang/Object;" } : Jvm.MethodName) ({ cls := "java/util/ArrayList", name := "get", desc := "(I)Ljava/lang/Object;" } : Jvm.MethodName)) ∈ lw_all := lw_g (lw_at lw_m2 61 rfl) rfl
theorem q438 : (Jvm.Cond.code ({ cls := "java/util/ArrayList", name := "get", desc := "(I)Ljava/lang/Object;" } : Jvm.MethodName) prog_41_method_20_code (2 : Nat) (Option.some (Jvm.ClassFile.FieldType.object "java/lang/Object"))) ∈ lw_all := lw_g (lw_at lw_m2 62 rfl) rfl
theorem q439 : (Jvm.Cond.methodLink "java/util/ArrayList" (118 : Nat) ({ cls := "java/util/Objects", name := "checkIndex", desc := "(II)I" } : Jvm.MethodName)) ∈ lw_all := lw_g (lw_at lw_m2 63 rfl) rfl
theorem q445 : (Jvm.Cond.methodLink "java/util/ArrayList" (123 : Nat) ({ cls := "java/util/ArrayList", name := "elementData", desc := "(I)Ljava/lang/Object;" } : Jvm.MethodName)) ∈ lw_all := lw_g (lw_at lw_m2 69 rfl) rfl
theorem q446 : (Jvm.Cond.instanceMethod ({ cls := "java/util/ArrayList", name := "elementData", desc := "(I)Ljava/lang/Object;" } : Jvm.MethodName)) ∈ lw_all := lw_g (lw_at lw_m2 70 rfl) rfl
theorem q447 : (Jvm.Cond.selects "java/util/ArrayList" ({ cls := "java/util/ArrayList", name := "elementData", desc := "(I)Ljava/lang/Object;" } : Jvm.MethodName) ({ cls := "java/util/ArrayList", name := "elementData", desc := "(I)Ljava/lang/Object;" } : Jvm.MethodName)) ∈ lw_all := lw_g (lw_at lw_m2 71 rfl) rfl
theorem q448 : (Jvm.Cond.code ({ cls := "java/util/ArrayList", name := "elementData", desc := "(I)Ljava/lang/Object;" } : Jvm.MethodName) prog_41_method_18_code (2 : Nat) (Option.some (Jvm.ClassFile.FieldType.object "java/lang/Object"))) ∈ lw_all := lw_g (lw_at lw_m2 72 rfl) rfl
theorem q858 : (Jvm.Cond.instanceMethod ({ cls := "java/util/ArrayList", name := "add", desc := "(Ljava/lang/Object;)Z" } : Jvm.MethodName)) ∈ lw_all := lw_g (lw_at lw_m4 2 rfl) rfl
theorem q859 : (Jvm.Cond.selects "java/util/ArrayList" ({ cls := "java/util/ArrayList", name := "add", desc := "(Ljava/lang/Object;)Z" } : Jvm.MethodName) ({ cls := "java/util/ArrayList", name := "add", desc := "(Ljava/lang/Object;)Z" } : Jvm.MethodName)) ∈ lw_all := lw_g (lw_at lw_m4 3 rfl) rfl
theorem q860 : (Jvm.Cond.code ({ cls := "java/util/ArrayList", name := "add", desc := "(Ljava/lang/Object;)Z" } : Jvm.MethodName) prog_41_method_25_code (2 : Nat) (Option.some Jvm.ClassFile.FieldType.boolean)) ∈ lw_all := lw_g (lw_at lw_m4 4 rfl) rfl
theorem q861 : (Jvm.Cond.methodLink "java/util/ArrayList" (131 : Nat) ({ cls := "java/util/ArrayList", name := "add", desc := "(Ljava/lang/Object;[Ljava/lang/Object;I)V" } : Jvm.MethodName)) ∈ lw_all := lw_g (lw_at lw_m4 5 rfl) rfl
theorem q862 : (Jvm.Cond.privateMethod ({ cls := "java/util/ArrayList", name := "add", desc := "(Ljava/lang/Object;[Ljava/lang/Object;I)V" } : Jvm.MethodName)) ∈ lw_tbl := lw_at lw_m4 6 rfl
theorem q863 : (Jvm.Cond.instanceMethod ({ cls := "java/util/ArrayList", name := "add", desc := "(Ljava/lang/Object;[Ljava/lang/Object;I)V" } : Jvm.MethodName)) ∈ lw_all := lw_g (lw_at lw_m4 7 rfl) rfl
theorem q864 : (Jvm.Cond.code ({ cls := "java/util/ArrayList", name := "add", desc := "(Ljava/lang/Object;[Ljava/lang/Object;I)V" } : Jvm.MethodName) prog_41_method_24_code (4 : Nat) (Option.none : Option Jvm.ClassFile.FieldType)) ∈ lw_all := lw_g (lw_at lw_m4 8 rfl) rfl
theorem q865 : (Jvm.Cond.methodLink "java/util/ArrayList" (129 : Nat) ({ cls := "java/util/ArrayList", name := "grow", desc := "()[Ljava/lang/Object;" } : Jvm.MethodName)) ∈ lw_all := lw_g (lw_at lw_m4 9 rfl) rfl
theorem q866 : (Jvm.Cond.privateMethod ({ cls := "java/util/ArrayList", name := "grow", desc := "()[Ljava/lang/Object;" } : Jvm.MethodName)) ∈ lw_tbl := lw_at lw_m4 10 rfl
theorem q867 : (Jvm.Cond.instanceMethod ({ cls := "java/util/ArrayList", name := "grow", desc := "()[Ljava/lang/Object;" } : Jvm.MethodName)) ∈ lw_all := lw_g (lw_at lw_m4 11 rfl) rfl
theorem q868 : (Jvm.Cond.code ({ cls := "java/util/ArrayList", name := "grow", desc := "()[Ljava/lang/Object;" } : Jvm.MethodName) prog_41_method_7_code (1 : Nat) (Option.some (Jvm.ClassFile.FieldType.array (Jvm.ClassFile.FieldType.object "java/lang/Object")))) ∈ lw_all := lw_g (lw_at lw_m4 12 rfl) rfl
theorem q869 : (Jvm.Cond.methodLink "java/util/ArrayList" (69 : Nat) ({ cls := "java/util/ArrayList", name := "grow", desc := "(I)[Ljava/lang/Object;" } : Jvm.MethodName)) ∈ lw_all := lw_g (lw_at lw_m4 13 rfl) rfl
theorem q870 : (Jvm.Cond.privateMethod ({ cls := "java/util/ArrayList", name := "grow", desc := "(I)[Ljava/lang/Object;" } : Jvm.MethodName)) ∈ lw_tbl := lw_at lw_m4 14 rfl
theorem q871 : (Jvm.Cond.instanceMethod ({ cls := "java/util/ArrayList", name := "grow", desc := "(I)[Ljava/lang/Object;" } : Jvm.MethodName)) ∈ lw_all := lw_g (lw_at lw_m4 15 rfl) rfl
theorem q872 : (Jvm.Cond.code ({ cls := "java/util/ArrayList", name := "grow", desc := "(I)[Ljava/lang/Object;" } : Jvm.MethodName) prog_41_method_6_code (4 : Nat) (Option.some (Jvm.ClassFile.FieldType.array (Jvm.ClassFile.FieldType.object "java/lang/Object")))) ∈ lw_all := lw_g (lw_at lw_m4 16 rfl) rfl
theorem q873 : (Jvm.Cond.fieldLink "java/util/ArrayList" (39 : Nat) "java/util/ArrayList" "DEFAULTCAPACITY_EMPTY_ELEMENTDATA" "[Ljava/lang/Object;") ∈ lw_all := lw_g (lw_at lw_m4 17 rfl) rfl
theorem q874 : (Jvm.Cond.laysStatic "java/util/ArrayList" "DEFAULTCAPACITY_EMPTY_ELEMENTDATA" "[Ljava/lang/Object;") ∈ lw_tbl := lw_at lw_m4 18 rfl
theorem q875 : (Jvm.Cond.methodLink "java/util/ArrayList" (73 : Nat) ({ cls := "jdk/internal/util/ArraysSupport", name := "newLength", desc := "(III)I" } : Jvm.MethodName)) ∈ lw_all := lw_g (lw_at lw_m4 19 rfl) rfl
theorem q885 : (Jvm.Cond.methodLink "java/util/ArrayList" (66 : Nat) ({ cls := "java/util/Arrays", name := "copyOf", desc := "([Ljava/lang/Object;I)[Ljava/lang/Object;" } : Jvm.MethodName)) ∈ lw_all := lw_g (lw_at lw_m4 29 rfl) rfl
theorem q908 : (Jvm.Cond.selects "java/util/ArrayList" ({ cls := "java/lang/Object", name := "getClass", desc := "()Ljava/lang/Class;" } : Jvm.MethodName) ({ cls := "java/lang/Object", name := "getClass", desc := "()Ljava/lang/Class;" } : Jvm.MethodName)) ∈ lw_all := lw_g (lw_at lw_m4 52 rfl) rfl
theorem q919 : (Jvm.Cond.methodLink "java/util/ArrayList" (79 : Nat) ({ cls := "java/lang/Math", name := "max", desc := "(II)I" } : Jvm.MethodName)) ∈ lw_all := lw_g (lw_at lw_m4 63 rfl) rfl
theorem q926 : (Jvm.Cond.instanceMethod ({ cls := "java/util/ArrayList", name := "isEmpty", desc := "()Z" } : Jvm.MethodName)) ∈ lw_all := lw_g (lw_at lw_m4 70 rfl) rfl
theorem q927 : (Jvm.Cond.selects "java/util/ArrayList" ({ cls := "java/util/ArrayList", name := "isEmpty", desc := "()Z" } : Jvm.MethodName) ({ cls := "java/util/ArrayList", name := "isEmpty", desc := "()Z" } : Jvm.MethodName)) ∈ lw_all := lw_g (lw_at lw_m4 71 rfl) rfl
theorem q928 : (Jvm.Cond.code ({ cls := "java/util/ArrayList", name := "isEmpty", desc := "()Z" } : Jvm.MethodName) prog_41_method_9_code (1 : Nat) (Option.some Jvm.ClassFile.FieldType.boolean)) ∈ lw_all := lw_g (lw_at lw_m4 72 rfl) rfl
theorem q1519 : (Jvm.Cond.instanceMethod ({ cls := "java/util/ArrayList", name := "remove", desc := "(I)Ljava/lang/Object;" } : Jvm.MethodName)) ∈ lw_all := lw_g (lw_at lw_m6 183 rfl) rfl
theorem q1520 : (Jvm.Cond.selects "java/util/ArrayList" ({ cls := "java/util/ArrayList", name := "remove", desc := "(I)Ljava/lang/Object;" } : Jvm.MethodName) ({ cls := "java/util/ArrayList", name := "remove", desc := "(I)Ljava/lang/Object;" } : Jvm.MethodName)) ∈ lw_all := lw_g (lw_at lw_m6 184 rfl) rfl
theorem q1521 : (Jvm.Cond.code ({ cls := "java/util/ArrayList", name := "remove", desc := "(I)Ljava/lang/Object;" } : Jvm.MethodName) prog_41_method_29_code (4 : Nat) (Option.some (Jvm.ClassFile.FieldType.object "java/lang/Object"))) ∈ lw_all := lw_g (lw_at lw_m6 185 rfl) rfl
theorem q1522 : (Jvm.Cond.methodLink "java/util/ArrayList" (144 : Nat) ({ cls := "java/util/ArrayList", name := "fastRemove", desc := "([Ljava/lang/Object;I)V" } : Jvm.MethodName)) ∈ lw_all := lw_g (lw_at lw_m6 186 rfl) rfl
theorem q1523 : (Jvm.Cond.privateMethod ({ cls := "java/util/ArrayList", name := "fastRemove", desc := "([Ljava/lang/Object;I)V" } : Jvm.MethodName)) ∈ lw_tbl := lw_at lw_m6 187 rfl
theorem q1524 : (Jvm.Cond.instanceMethod ({ cls := "java/util/ArrayList", name := "fastRemove", desc := "([Ljava/lang/Object;I)V" } : Jvm.MethodName)) ∈ lw_all := lw_g (lw_at lw_m6 188 rfl) rfl
theorem q1525 : (Jvm.Cond.code ({ cls := "java/util/ArrayList", name := "fastRemove", desc := "([Ljava/lang/Object;I)V" } : Jvm.MethodName) prog_41_method_39_code (4 : Nat) (Option.none : Option Jvm.ClassFile.FieldType)) ∈ lw_all := lw_g (lw_at lw_m6 189 rfl) rfl
theorem q1526 : (Jvm.Cond.methodLink "java/util/ArrayList" (112 : Nat) ({ cls := "java/lang/System", name := "arraycopy", desc := "(Ljava/lang/Object;ILjava/lang/Object;II)V" } : Jvm.MethodName)) ∈ lw_all := lw_g (lw_at lw_m6 190 rfl) rfl
theorem q1565 : (Jvm.Cond.instanceMethod ({ cls := "java/util/ArrayList", name := "addAll", desc := "(Ljava/util/Collection;)Z" } : Jvm.MethodName)) ∈ lw_all := lw_g (lw_at lw_m6 229 rfl) rfl
theorem q1566 : (Jvm.Cond.selects "java/util/ArrayList" ({ cls := "java/util/ArrayList", name := "addAll", desc := "(Ljava/util/Collection;)Z" } : Jvm.MethodName) ({ cls := "java/util/ArrayList", name := "addAll", desc := "(Ljava/util/Collection;)Z" } : Jvm.MethodName)) ∈ lw_all := lw_g (lw_at lw_m6 230 rfl) rfl
theorem q1567 : (Jvm.Cond.code ({ cls := "java/util/ArrayList", name := "addAll", desc := "(Ljava/util/Collection;)Z" } : Jvm.MethodName) prog_41_method_41_code (6 : Nat) (Option.some Jvm.ClassFile.FieldType.boolean)) ∈ lw_all := lw_g (lw_at lw_m6 231 rfl) rfl
theorem q1568 : (Jvm.Cond.interfaceEntry "java/util/ArrayList" (42 : Nat)) ∈ lw_tbl := lw_at lw_m6 232 rfl
theorem q1569 : (Jvm.Cond.methodLink "java/util/ArrayList" (42 : Nat) ({ cls := "java/util/Collection", name := "toArray", desc := "()[Ljava/lang/Object;" } : Jvm.MethodName)) ∈ lw_all := lw_g (lw_at lw_m6 233 rfl) rfl
theorem q1572 : (Jvm.Cond.castable "java/util/ArrayList" "java/util/Collection") ∈ lw_tbl := lw_at lw_m6 236 rfl
theorem q1573 : (Jvm.Cond.selects "java/util/ArrayList" ({ cls := "java/util/Collection", name := "toArray", desc := "()[Ljava/lang/Object;" } : Jvm.MethodName) ({ cls := "java/util/ArrayList", name := "toArray", desc := "()[Ljava/lang/Object;" } : Jvm.MethodName)) ∈ lw_all := lw_g (lw_at lw_m6 237 rfl) rfl
theorem q1574 : (Jvm.Cond.unhidden "java/util/ArrayList" "toArray" "()[Ljava/lang/Object;") ∈ lw_tbl := lw_at lw_m6 238 rfl
theorem q1575 : (Jvm.Cond.instanceMethod ({ cls := "java/util/ArrayList", name := "toArray", desc := "()[Ljava/lang/Object;" } : Jvm.MethodName)) ∈ lw_all := lw_g (lw_at lw_m6 239 rfl) rfl
theorem q1576 : (Jvm.Cond.publicMethod ({ cls := "java/util/ArrayList", name := "toArray", desc := "()[Ljava/lang/Object;" } : Jvm.MethodName)) ∈ lw_tbl := lw_at lw_m7 0 rfl
theorem q1577 : (Jvm.Cond.code ({ cls := "java/util/ArrayList", name := "toArray", desc := "()[Ljava/lang/Object;" } : Jvm.MethodName) prog_41_method_16_code (1 : Nat) (Option.some (Jvm.ClassFile.FieldType.array (Jvm.ClassFile.FieldType.object "java/lang/Object")))) ∈ lw_all := lw_g (lw_at lw_m7 1 rfl) rfl
theorem q2371 : (Jvm.Cond.castable "java/util/ArrayList" "java/lang/Object") ∈ lw_tbl := lw_at lw_m10 75 rfl
theorem in_J2 : ∀ w ∈ wsJ20, w ∈ lw_all := lw_in wsJ20 [213, 209, 211] (by decide +kernel) (by decide +kernel)

/-! java/util/Objects -/
set_option maxRecDepth 100000
def RJ3 : String := "java/util/Objects"
abbrev cJ3_checkIndex : ByteArray := prog_45_method_17_code
def yJ3_checkIndex : MethodName := ⟨RJ3, "checkIndex", "(II)I"⟩
def dkwJ3_checkIndex_0 : List UInt8 := [26, 27, 1, 184, 0, 105, 172]
abbrev dktJ3_checkIndex_0 : List UInt8 := dkwJ3_checkIndex_0 ++ []
theorem dksJ3_checkIndex_0 : cJ3_checkIndex.data.toList.drop 0 = dktJ3_checkIndex_0 := by decide +kernel
theorem dJ3_checkIndex_0 : decode cJ3_checkIndex 0 = .ok (.iload_n 0, 1) := dk_26 (dk_at dksJ3_checkIndex_0 0 rfl rfl)
theorem dJ3_checkIndex_1 : decode cJ3_checkIndex 1 = .ok (.iload_n 1, 1) := dk_27 (dk_at dksJ3_checkIndex_0 1 rfl rfl)
theorem dJ3_checkIndex_2 : decode cJ3_checkIndex 2 = .ok (.aconst_null, 1) := dk_1 (dk_at dksJ3_checkIndex_0 2 rfl rfl)
theorem dJ3_checkIndex_3 : decode cJ3_checkIndex 3 = .ok (.invokestatic 105, 3) := dk_184 0 105 (dk_at dksJ3_checkIndex_0 3 rfl rfl)
theorem dJ3_checkIndex_6 : decode cJ3_checkIndex 6 = .ok (.ireturn, 1) := dk_172 (dk_at dksJ3_checkIndex_0 6 rfl rfl)
theorem q150 : (Jvm.Cond.initialized "java/util/Objects") ∈ lw_all := lw_g (lw_at lw_m1 14 rfl) rfl
theorem q440 : (Jvm.Cond.static ({ cls := "java/util/Objects", name := "checkIndex", desc := "(II)I" } : Jvm.MethodName)) ∈ lw_all := lw_g (lw_at lw_m2 64 rfl) rfl
theorem q441 : (Jvm.Cond.code ({ cls := "java/util/Objects", name := "checkIndex", desc := "(II)I" } : Jvm.MethodName) prog_45_method_17_code (2 : Nat) (Option.some Jvm.ClassFile.FieldType.int)) ∈ lw_all := lw_g (lw_at lw_m2 65 rfl) rfl
theorem q442 : (Jvm.Cond.methodLink "java/util/Objects" (105 : Nat) ({ cls := "jdk/internal/util/Preconditions", name := "checkIndex", desc := "(IILjava/util/function/BiFunction;)I" } : Jvm.MethodName)) ∈ lw_all := lw_g (lw_at lw_m2 66 rfl) rfl

/-! jdk/internal/util/Preconditions -/
set_option maxRecDepth 100000
def RJ4 : String := "jdk/internal/util/Preconditions"
abbrev cJ4_checkIndex : ByteArray := prog_49_method_11_code
def yJ4_checkIndex : MethodName := ⟨RJ4, "checkIndex", "(IILjava/util/function/BiFunction;)I"⟩
def dkwJ4_checkIndex_0 : List UInt8 := [26, 155, 0, 8, 26, 27, 161, 0, 10, 44, 26, 27, 184, 0, 95, 191, 26, 172]
abbrev dktJ4_checkIndex_0 : List UInt8 := dkwJ4_checkIndex_0 ++ []
theorem dksJ4_checkIndex_0 : cJ4_checkIndex.data.toList.drop 0 = dktJ4_checkIndex_0 := by decide +kernel
theorem dJ4_checkIndex_0 : decode cJ4_checkIndex 0 = .ok (.iload_n 0, 1) := dk_26 (dk_at dksJ4_checkIndex_0 0 rfl rfl)
theorem dJ4_checkIndex_1 : decode cJ4_checkIndex 1 = .ok (.ifCond .lt 8, 3) := dk_155 0 8 (dk_at dksJ4_checkIndex_0 1 rfl rfl)
theorem dJ4_checkIndex_4 : decode cJ4_checkIndex 4 = .ok (.iload_n 0, 1) := dk_26 (dk_at dksJ4_checkIndex_0 4 rfl rfl)
theorem dJ4_checkIndex_5 : decode cJ4_checkIndex 5 = .ok (.iload_n 1, 1) := dk_27 (dk_at dksJ4_checkIndex_0 5 rfl rfl)
theorem dJ4_checkIndex_6 : decode cJ4_checkIndex 6 = .ok (.if_icmp .lt 10, 3) := dk_161 0 10 (dk_at dksJ4_checkIndex_0 6 rfl rfl)
theorem dJ4_checkIndex_9 : decode cJ4_checkIndex 9 = .ok (.aload_n 2, 1) := dk_44 (dk_at dksJ4_checkIndex_0 9 rfl rfl)
theorem dJ4_checkIndex_10 : decode cJ4_checkIndex 10 = .ok (.iload_n 0, 1) := dk_26 (dk_at dksJ4_checkIndex_0 10 rfl rfl)
theorem dJ4_checkIndex_11 : decode cJ4_checkIndex 11 = .ok (.iload_n 1, 1) := dk_27 (dk_at dksJ4_checkIndex_0 11 rfl rfl)
theorem dJ4_checkIndex_12 : decode cJ4_checkIndex 12 = .ok (.invokestatic 95, 3) := dk_184 0 95 (dk_at dksJ4_checkIndex_0 12 rfl rfl)
theorem dJ4_checkIndex_15 : decode cJ4_checkIndex 15 = .ok (.athrow, 1) := dk_191 (dk_at dksJ4_checkIndex_0 15 rfl rfl)
theorem dJ4_checkIndex_16 : decode cJ4_checkIndex 16 = .ok (.iload_n 0, 1) := dk_26 (dk_at dksJ4_checkIndex_0 16 rfl rfl)
theorem dJ4_checkIndex_17 : decode cJ4_checkIndex 17 = .ok (.ireturn, 1) := dk_172 (dk_at dksJ4_checkIndex_0 17 rfl rfl)
theorem q151 : (Jvm.Cond.initialized "jdk/internal/util/Preconditions") ∈ lw_all := lw_g (lw_at lw_m1 15 rfl) rfl
theorem q443 : (Jvm.Cond.static ({ cls := "jdk/internal/util/Preconditions", name := "checkIndex", desc := "(IILjava/util/function/BiFunction;)I" } : Jvm.MethodName)) ∈ lw_all := lw_g (lw_at lw_m2 67 rfl) rfl
theorem q444 : (Jvm.Cond.code ({ cls := "jdk/internal/util/Preconditions", name := "checkIndex", desc := "(IILjava/util/function/BiFunction;)I" } : Jvm.MethodName) prog_49_method_11_code (3 : Nat) (Option.some Jvm.ClassFile.FieldType.int)) ∈ lw_all := lw_g (lw_at lw_m2 68 rfl) rfl
theorem q683 : (Jvm.Cond.laysStatic "jdk/internal/util/Preconditions" "SIOOBE_FORMATTER" "Ljava/util/function/BiFunction;") ∈ lw_tbl := lw_at lw_m3 67 rfl

/-! java/lang/Math -/
set_option maxRecDepth 100000
def RJ5 : String := "java/lang/Math"
abbrev cJ5_min : ByteArray := prog_29_method_69_code
def yJ5_min : MethodName := ⟨RJ5, "min", "(II)I"⟩
def dkwJ5_min_0 : List UInt8 := [26, 27, 163, 0, 7, 26, 167, 0, 4, 27, 172]
abbrev dktJ5_min_0 : List UInt8 := dkwJ5_min_0 ++ []
theorem dksJ5_min_0 : cJ5_min.data.toList.drop 0 = dktJ5_min_0 := by decide +kernel
theorem dJ5_min_0 : decode cJ5_min 0 = .ok (.iload_n 0, 1) := dk_26 (dk_at dksJ5_min_0 0 rfl rfl)
theorem dJ5_min_1 : decode cJ5_min 1 = .ok (.iload_n 1, 1) := dk_27 (dk_at dksJ5_min_0 1 rfl rfl)
theorem dJ5_min_2 : decode cJ5_min 2 = .ok (.if_icmp .gt 7, 3) := dk_163 0 7 (dk_at dksJ5_min_0 2 rfl rfl)
theorem dJ5_min_5 : decode cJ5_min 5 = .ok (.iload_n 0, 1) := dk_26 (dk_at dksJ5_min_0 5 rfl rfl)
theorem dJ5_min_6 : decode cJ5_min 6 = .ok (.goto 4, 3) := dk_167 0 4 (dk_at dksJ5_min_0 6 rfl rfl)
theorem dJ5_min_9 : decode cJ5_min 9 = .ok (.iload_n 1, 1) := dk_27 (dk_at dksJ5_min_0 9 rfl rfl)
theorem dJ5_min_10 : decode cJ5_min 10 = .ok (.ireturn, 1) := dk_172 (dk_at dksJ5_min_0 10 rfl rfl)
abbrev cJ5_max : ByteArray := prog_29_method_65_code
def yJ5_max : MethodName := ⟨RJ5, "max", "(II)I"⟩
def dkwJ5_max_0 : List UInt8 := [26, 27, 161, 0, 7, 26, 167, 0, 4, 27, 172]
abbrev dktJ5_max_0 : List UInt8 := dkwJ5_max_0 ++ []
theorem dksJ5_max_0 : cJ5_max.data.toList.drop 0 = dktJ5_max_0 := by decide +kernel
theorem dJ5_max_0 : decode cJ5_max 0 = .ok (.iload_n 0, 1) := dk_26 (dk_at dksJ5_max_0 0 rfl rfl)
theorem dJ5_max_1 : decode cJ5_max 1 = .ok (.iload_n 1, 1) := dk_27 (dk_at dksJ5_max_0 1 rfl rfl)
theorem dJ5_max_2 : decode cJ5_max 2 = .ok (.if_icmp .lt 7, 3) := dk_161 0 7 (dk_at dksJ5_max_0 2 rfl rfl)
theorem dJ5_max_5 : decode cJ5_max 5 = .ok (.iload_n 0, 1) := dk_26 (dk_at dksJ5_max_0 5 rfl rfl)
theorem dJ5_max_6 : decode cJ5_max 6 = .ok (.goto 4, 3) := dk_167 0 4 (dk_at dksJ5_max_0 6 rfl rfl)
theorem dJ5_max_9 : decode cJ5_max 9 = .ok (.iload_n 1, 1) := dk_27 (dk_at dksJ5_max_0 9 rfl rfl)
theorem dJ5_max_10 : decode cJ5_max 10 = .ok (.ireturn, 1) := dk_172 (dk_at dksJ5_max_0 10 rfl rfl)
theorem q154 : (Jvm.Cond.initialized "java/lang/Math") ∈ lw_all := lw_g (lw_at lw_m1 18 rfl) rfl
theorem q610 : (Jvm.Cond.static ({ cls := "java/lang/Math", name := "min", desc := "(II)I" } : Jvm.MethodName)) ∈ lw_all := lw_g (lw_at lw_m2 234 rfl) rfl
theorem q611 : (Jvm.Cond.code ({ cls := "java/lang/Math", name := "min", desc := "(II)I" } : Jvm.MethodName) prog_29_method_69_code (2 : Nat) (Option.some Jvm.ClassFile.FieldType.int)) ∈ lw_all := lw_g (lw_at lw_m2 235 rfl) rfl
theorem q879 : (Jvm.Cond.static ({ cls := "java/lang/Math", name := "max", desc := "(II)I" } : Jvm.MethodName)) ∈ lw_all := lw_g (lw_at lw_m4 23 rfl) rfl
theorem q880 : (Jvm.Cond.code ({ cls := "java/lang/Math", name := "max", desc := "(II)I" } : Jvm.MethodName) prog_29_method_65_code (2 : Nat) (Option.some Jvm.ClassFile.FieldType.int)) ∈ lw_all := lw_g (lw_at lw_m4 24 rfl) rfl

/-! java/lang/String -/
set_option maxRecDepth 100000
def RJ6 : String := "java/lang/String"
def TJ6 : u_T := fun k => match k with
  | 0 => ("java/lang/String", "value", "[B", true)
  | _ => ("java/lang/String", "coder", "B", true)
def tyJ6 : Nat → FieldType := fun k => match k with
  | 0 => .array .byte
  | _ => .byte
abbrev wsJ60 : List Cond := u_ws RJ6 TJ6 2
theorem nmJ6 : ∀ a, a < 2 → ∀ b, b < 2 → a ≠ b → (TJ6 a).2.1 ≠ (TJ6 b).2.1 := by decide +kernel
theorem tyJ6_ok : ∀ k, k < 2 → parseFieldDescriptor (TJ6 k).2.2.1 = some (tyJ6 k) := by decide +kernel
abbrev cJ6_length : ByteArray := prog_32_method_54_code
def yJ6_length : MethodName := ⟨RJ6, "length", "()I"⟩
def dkwJ6_length_0 : List UInt8 := [42, 180, 0, 9, 190, 42, 182, 1, 79, 122, 172]
abbrev dktJ6_length_0 : List UInt8 := dkwJ6_length_0 ++ []
theorem dksJ6_length_0 : cJ6_length.data.toList.drop 0 = dktJ6_length_0 := by decide +kernel
theorem dJ6_length_0 : decode cJ6_length 0 = .ok (.aload_n 0, 1) := dk_42 (dk_at dksJ6_length_0 0 rfl rfl)
theorem dJ6_length_1 : decode cJ6_length 1 = .ok (.getfield 9, 3) := dk_180 0 9 (dk_at dksJ6_length_0 1 rfl rfl)
theorem dJ6_length_4 : decode cJ6_length 4 = .ok (.arraylength, 1) := dk_190 (dk_at dksJ6_length_0 4 rfl rfl)
theorem dJ6_length_5 : decode cJ6_length 5 = .ok (.aload_n 0, 1) := dk_42 (dk_at dksJ6_length_0 5 rfl rfl)
theorem dJ6_length_6 : decode cJ6_length 6 = .ok (.invokevirtual 335, 3) := dk_182 1 79 (dk_at dksJ6_length_0 6 rfl rfl)
theorem dJ6_length_9 : decode cJ6_length 9 = .ok (.ishr, 1) := dk_122 (dk_at dksJ6_length_0 9 rfl rfl)
theorem dJ6_length_10 : decode cJ6_length 10 = .ok (.ireturn, 1) := dk_172 (dk_at dksJ6_length_0 10 rfl rfl)
abbrev cJ6_coder : ByteArray := prog_32_method_152_code
def yJ6_coder : MethodName := ⟨RJ6, "coder", "()B"⟩
def dkwJ6_coder_0 : List UInt8 := [178, 0, 38, 153, 0, 10, 42, 180, 0, 15, 167, 0, 4, 4, 172]
abbrev dktJ6_coder_0 : List UInt8 := dkwJ6_coder_0 ++ []
theorem dksJ6_coder_0 : cJ6_coder.data.toList.drop 0 = dktJ6_coder_0 := by decide +kernel
theorem dJ6_coder_0 : decode cJ6_coder 0 = .ok (.getstatic 38, 3) := dk_178 0 38 (dk_at dksJ6_coder_0 0 rfl rfl)
theorem dJ6_coder_3 : decode cJ6_coder 3 = .ok (.ifCond .eq 10, 3) := dk_153 0 10 (dk_at dksJ6_coder_0 3 rfl rfl)
theorem dJ6_coder_6 : decode cJ6_coder 6 = .ok (.aload_n 0, 1) := dk_42 (dk_at dksJ6_coder_0 6 rfl rfl)
theorem dJ6_coder_7 : decode cJ6_coder 7 = .ok (.getfield 15, 3) := dk_180 0 15 (dk_at dksJ6_coder_0 7 rfl rfl)
theorem dJ6_coder_10 : decode cJ6_coder 10 = .ok (.goto 4, 3) := dk_167 0 4 (dk_at dksJ6_coder_0 10 rfl rfl)
theorem dJ6_coder_13 : decode cJ6_coder 13 = .ok (.iconst 1, 1) := dk_4 (dk_at dksJ6_coder_0 13 rfl rfl)
theorem dJ6_coder_14 : decode cJ6_coder 14 = .ok (.ireturn, 1) := dk_172 (dk_at dksJ6_coder_0 14 rfl rfl)
abbrev cJ6_charAt : ByteArray := prog_32_method_56_code
def yJ6_charAt : MethodName := ⟨RJ6, "charAt", "(I)C"⟩
def dkwJ6_charAt_1 : List UInt8 := [172]
abbrev dktJ6_charAt_1 : List UInt8 := dkwJ6_charAt_1 ++ []
def dkwJ6_charAt_0 : List UInt8 := [42, 182, 1, 236, 153, 0, 12, 42, 180, 0, 9, 27, 184, 1, 239, 172, 42, 180, 0, 9, 27, 184, 1, 242]
abbrev dktJ6_charAt_0 : List UInt8 := dkwJ6_charAt_0 ++ dktJ6_charAt_1
theorem dksJ6_charAt_0 : cJ6_charAt.data.toList.drop 0 = dktJ6_charAt_0 := by decide +kernel
theorem dksJ6_charAt_1 : cJ6_charAt.data.toList.drop 24 = dktJ6_charAt_1 := dk_seg dksJ6_charAt_0 24 rfl rfl
theorem dJ6_charAt_0 : decode cJ6_charAt 0 = .ok (.aload_n 0, 1) := dk_42 (dk_at dksJ6_charAt_0 0 rfl rfl)
theorem dJ6_charAt_1 : decode cJ6_charAt 1 = .ok (.invokevirtual 492, 3) := dk_182 1 236 (dk_at dksJ6_charAt_0 1 rfl rfl)
theorem dJ6_charAt_4 : decode cJ6_charAt 4 = .ok (.ifCond .eq 12, 3) := dk_153 0 12 (dk_at dksJ6_charAt_0 4 rfl rfl)
theorem dJ6_charAt_7 : decode cJ6_charAt 7 = .ok (.aload_n 0, 1) := dk_42 (dk_at dksJ6_charAt_0 7 rfl rfl)
theorem dJ6_charAt_8 : decode cJ6_charAt 8 = .ok (.getfield 9, 3) := dk_180 0 9 (dk_at dksJ6_charAt_0 8 rfl rfl)
theorem dJ6_charAt_11 : decode cJ6_charAt 11 = .ok (.iload_n 1, 1) := dk_27 (dk_at dksJ6_charAt_0 11 rfl rfl)
theorem dJ6_charAt_12 : decode cJ6_charAt 12 = .ok (.invokestatic 495, 3) := dk_184 1 239 (dk_at dksJ6_charAt_0 12 rfl rfl)
theorem dJ6_charAt_15 : decode cJ6_charAt 15 = .ok (.ireturn, 1) := dk_172 (dk_at dksJ6_charAt_0 15 rfl rfl)
theorem dJ6_charAt_16 : decode cJ6_charAt 16 = .ok (.aload_n 0, 1) := dk_42 (dk_at dksJ6_charAt_0 16 rfl rfl)
theorem dJ6_charAt_17 : decode cJ6_charAt 17 = .ok (.getfield 9, 3) := dk_180 0 9 (dk_at dksJ6_charAt_0 17 rfl rfl)
theorem dJ6_charAt_20 : decode cJ6_charAt 20 = .ok (.iload_n 1, 1) := dk_27 (dk_at dksJ6_charAt_0 20 rfl rfl)
theorem dJ6_charAt_21 : decode cJ6_charAt 21 = .ok (.invokestatic 498, 3) := dk_184 1 242 (dk_at dksJ6_charAt_0 21 rfl rfl)
theorem dJ6_charAt_24 : decode cJ6_charAt 24 = .ok (.ireturn, 1) := dk_172 (dk_at dksJ6_charAt_1 0 rfl rfl)
abbrev cJ6_isLatin1 : ByteArray := prog_32_method_154_code
def yJ6_isLatin1 : MethodName := ⟨RJ6, "isLatin1", "()Z"⟩
def dkwJ6_isLatin1_0 : List UInt8 := [178, 0, 38, 153, 0, 14, 42, 180, 0, 15, 154, 0, 7, 4, 167, 0, 4, 3, 172]
abbrev dktJ6_isLatin1_0 : List UInt8 := dkwJ6_isLatin1_0 ++ []
theorem dksJ6_isLatin1_0 : cJ6_isLatin1.data.toList.drop 0 = dktJ6_isLatin1_0 := by decide +kernel
theorem dJ6_isLatin1_0 : decode cJ6_isLatin1 0 = .ok (.getstatic 38, 3) := dk_178 0 38 (dk_at dksJ6_isLatin1_0 0 rfl rfl)
theorem dJ6_isLatin1_3 : decode cJ6_isLatin1 3 = .ok (.ifCond .eq 14, 3) := dk_153 0 14 (dk_at dksJ6_isLatin1_0 3 rfl rfl)
theorem dJ6_isLatin1_6 : decode cJ6_isLatin1 6 = .ok (.aload_n 0, 1) := dk_42 (dk_at dksJ6_isLatin1_0 6 rfl rfl)
theorem dJ6_isLatin1_7 : decode cJ6_isLatin1 7 = .ok (.getfield 15, 3) := dk_180 0 15 (dk_at dksJ6_isLatin1_0 7 rfl rfl)
theorem dJ6_isLatin1_10 : decode cJ6_isLatin1 10 = .ok (.ifCond .ne 7, 3) := dk_154 0 7 (dk_at dksJ6_isLatin1_0 10 rfl rfl)
theorem dJ6_isLatin1_13 : decode cJ6_isLatin1 13 = .ok (.iconst 1, 1) := dk_4 (dk_at dksJ6_isLatin1_0 13 rfl rfl)
theorem dJ6_isLatin1_14 : decode cJ6_isLatin1 14 = .ok (.goto 4, 3) := dk_167 0 4 (dk_at dksJ6_isLatin1_0 14 rfl rfl)
theorem dJ6_isLatin1_17 : decode cJ6_isLatin1 17 = .ok (.iconst 0, 1) := dk_3 (dk_at dksJ6_isLatin1_0 17 rfl rfl)
theorem dJ6_isLatin1_18 : decode cJ6_isLatin1 18 = .ok (.ireturn, 1) := dk_172 (dk_at dksJ6_isLatin1_0 18 rfl rfl)
abbrev cJ6_checkIndex : ByteArray := prog_32_method_155_code
def yJ6_checkIndex : MethodName := ⟨RJ6, "checkIndex", "(II)V"⟩
def dkwJ6_checkIndex_0 : List UInt8 := [26, 27, 178, 4, 29, 184, 4, 35, 87, 177]
abbrev dktJ6_checkIndex_0 : List UInt8 := dkwJ6_checkIndex_0 ++ []
theorem dksJ6_checkIndex_0 : cJ6_checkIndex.data.toList.drop 0 = dktJ6_checkIndex_0 := by decide +kernel
theorem dJ6_checkIndex_0 : decode cJ6_checkIndex 0 = .ok (.iload_n 0, 1) := dk_26 (dk_at dksJ6_checkIndex_0 0 rfl rfl)
theorem dJ6_checkIndex_1 : decode cJ6_checkIndex 1 = .ok (.iload_n 1, 1) := dk_27 (dk_at dksJ6_checkIndex_0 1 rfl rfl)
theorem dJ6_checkIndex_2 : decode cJ6_checkIndex 2 = .ok (.getstatic 1053, 3) := dk_178 4 29 (dk_at dksJ6_checkIndex_0 2 rfl rfl)
theorem dJ6_checkIndex_5 : decode cJ6_checkIndex 5 = .ok (.invokestatic 1059, 3) := dk_184 4 35 (dk_at dksJ6_checkIndex_0 5 rfl rfl)
theorem dJ6_checkIndex_8 : decode cJ6_checkIndex 8 = .ok (.pop, 1) := dk_87 (dk_at dksJ6_checkIndex_0 8 rfl rfl)
theorem dJ6_checkIndex_9 : decode cJ6_checkIndex 9 = .ok (.return_, 1) := dk_177 (dk_at dksJ6_checkIndex_0 9 rfl rfl)
theorem q155 : (Jvm.Cond.initialized "java/lang/String") ∈ lw_all := lw_g (lw_at lw_m1 19 rfl) rfl
theorem q659 : (Jvm.Cond.instanceMethod ({ cls := "java/lang/String", name := "length", desc := "()I" } : Jvm.MethodName)) ∈ lw_all := lw_g (lw_at lw_m3 43 rfl) rfl
theorem q660 : (Jvm.Cond.selects "java/lang/String" ({ cls := "java/lang/String", name := "length", desc := "()I" } : Jvm.MethodName) ({ cls := "java/lang/String", name := "length", desc := "()I" } : Jvm.MethodName)) ∈ lw_all := lw_g (lw_at lw_m3 44 rfl) rfl
theorem q661 : (Jvm.Cond.code ({ cls := "java/lang/String", name := "length", desc := "()I" } : Jvm.MethodName) prog_32_method_54_code (1 : Nat) (Option.some Jvm.ClassFile.FieldType.int)) ∈ lw_all := lw_g (lw_at lw_m3 45 rfl) rfl
theorem q662 : (Jvm.Cond.methodLink "java/lang/String" (335 : Nat) ({ cls := "java/lang/String", name := "coder", desc := "()B" } : Jvm.MethodName)) ∈ lw_all := lw_g (lw_at lw_m3 46 rfl) rfl
theorem q663 : (Jvm.Cond.instanceMethod ({ cls := "java/lang/String", name := "coder", desc := "()B" } : Jvm.MethodName)) ∈ lw_all := lw_g (lw_at lw_m3 47 rfl) rfl
theorem q664 : (Jvm.Cond.selects "java/lang/String" ({ cls := "java/lang/String", name := "coder", desc := "()B" } : Jvm.MethodName) ({ cls := "java/lang/String", name := "coder", desc := "()B" } : Jvm.MethodName)) ∈ lw_all := lw_g (lw_at lw_m3 48 rfl) rfl
theorem q665 : (Jvm.Cond.code ({ cls := "java/lang/String", name := "coder", desc := "()B" } : Jvm.MethodName) prog_32_method_152_code (1 : Nat) (Option.some Jvm.ClassFile.FieldType.byte)) ∈ lw_all := lw_g (lw_at lw_m3 49 rfl) rfl
theorem q666 : (Jvm.Cond.fieldLink "java/lang/String" (38 : Nat) "java/lang/String" "COMPACT_STRINGS" "Z") ∈ lw_all := lw_g (lw_at lw_m3 50 rfl) rfl
theorem q667 : (Jvm.Cond.laysStatic "java/lang/String" "COMPACT_STRINGS" "Z") ∈ lw_tbl := lw_at lw_m3 51 rfl
theorem q669 : (Jvm.Cond.instanceMethod ({ cls := "java/lang/String", name := "charAt", desc := "(I)C" } : Jvm.MethodName)) ∈ lw_all := lw_g (lw_at lw_m3 53 rfl) rfl
theorem q670 : (Jvm.Cond.selects "java/lang/String" ({ cls := "java/lang/String", name := "charAt", desc := "(I)C" } : Jvm.MethodName) ({ cls := "java/lang/String", name := "charAt", desc := "(I)C" } : Jvm.MethodName)) ∈ lw_all := lw_g (lw_at lw_m3 54 rfl) rfl
theorem q671 : (Jvm.Cond.code ({ cls := "java/lang/String", name := "charAt", desc := "(I)C" } : Jvm.MethodName) prog_32_method_56_code (2 : Nat) (Option.some Jvm.ClassFile.FieldType.char)) ∈ lw_all := lw_g (lw_at lw_m3 55 rfl) rfl
theorem q672 : (Jvm.Cond.methodLink "java/lang/String" (492 : Nat) ({ cls := "java/lang/String", name := "isLatin1", desc := "()Z" } : Jvm.MethodName)) ∈ lw_all := lw_g (lw_at lw_m3 56 rfl) rfl
theorem q673 : (Jvm.Cond.instanceMethod ({ cls := "java/lang/String", name := "isLatin1", desc := "()Z" } : Jvm.MethodName)) ∈ lw_all := lw_g (lw_at lw_m3 57 rfl) rfl
theorem q674 : (Jvm.Cond.selects "java/lang/String" ({ cls := "java/lang/String", name := "isLatin1", desc := "()Z" } : Jvm.MethodName) ({ cls := "java/lang/String", name := "isLatin1", desc := "()Z" } : Jvm.MethodName)) ∈ lw_all := lw_g (lw_at lw_m3 58 rfl) rfl
theorem q675 : (Jvm.Cond.code ({ cls := "java/lang/String", name := "isLatin1", desc := "()Z" } : Jvm.MethodName) prog_32_method_154_code (1 : Nat) (Option.some Jvm.ClassFile.FieldType.boolean)) ∈ lw_all := lw_g (lw_at lw_m3 59 rfl) rfl
theorem q676 : (Jvm.Cond.methodLink "java/lang/String" (495 : Nat) ({ cls := "java/lang/StringLatin1", name := "charAt", desc := "([BI)C" } : Jvm.MethodName)) ∈ lw_all := lw_g (lw_at lw_m3 60 rfl) rfl
theorem q680 : (Jvm.Cond.static ({ cls := "java/lang/String", name := "checkIndex", desc := "(II)V" } : Jvm.MethodName)) ∈ lw_all := lw_g (lw_at lw_m3 64 rfl) rfl
theorem q681 : (Jvm.Cond.code ({ cls := "java/lang/String", name := "checkIndex", desc := "(II)V" } : Jvm.MethodName) prog_32_method_155_code (2 : Nat) (Option.none : Option Jvm.ClassFile.FieldType)) ∈ lw_all := lw_g (lw_at lw_m3 65 rfl) rfl
theorem q682 : (Jvm.Cond.fieldLink "java/lang/String" (1053 : Nat) "jdk/internal/util/Preconditions" "SIOOBE_FORMATTER" "Ljava/util/function/BiFunction;") ∈ lw_all := lw_g (lw_at lw_m3 66 rfl) rfl
theorem q684 : (Jvm.Cond.methodLink "java/lang/String" (1059 : Nat) ({ cls := "jdk/internal/util/Preconditions", name := "checkIndex", desc := "(IILjava/util/function/BiFunction;)I" } : Jvm.MethodName)) ∈ lw_all := lw_g (lw_at lw_m3 68 rfl) rfl
theorem q685 : (Jvm.Cond.methodLink "java/lang/String" (498 : Nat) ({ cls := "java/lang/StringUTF16", name := "charAt", desc := "([BI)C" } : Jvm.MethodName)) ∈ lw_all := lw_g (lw_at lw_m3 69 rfl) rfl
theorem q1432 : (Jvm.Cond.instantiable "java/lang/String" (4 : Nat)) ∈ lw_all := lw_g (lw_at lw_m6 96 rfl) rfl
theorem q1433 : (Jvm.Cond.laysFinal "java/lang/String" "java/lang/String" "value" "[B") ∈ lw_all := lw_g (lw_at lw_m6 97 rfl) rfl
theorem q1434 : (Jvm.Cond.soleField "java/lang/String" "value") ∈ lw_all := lw_g (lw_at lw_m6 98 rfl) rfl
theorem q1435 : (Jvm.Cond.laysFinal "java/lang/String" "java/lang/String" "coder" "B") ∈ lw_all := lw_g (lw_at lw_m6 99 rfl) rfl
theorem q1436 : (Jvm.Cond.soleField "java/lang/String" "coder") ∈ lw_all := lw_g (lw_at lw_m6 100 rfl) rfl
theorem q2367 : (Jvm.Cond.castable "java/lang/String" "java/lang/Object") ∈ lw_tbl := lw_at lw_m10 71 rfl
theorem q2402 : (Jvm.Cond.fieldLink "java/lang/String" (9 : Nat) "java/lang/String" "value" "[B") ∈ lw_all := lw_g (lw_at lw_m10 106 rfl) rfl
theorem q2403 : (Jvm.Cond.fieldLink "java/lang/String" (15 : Nat) "java/lang/String" "coder" "B") ∈ lw_all := lw_g (lw_at lw_m10 107 rfl) rfl
theorem in_J6 : ∀ w ∈ wsJ60, w ∈ lw_all := lw_in wsJ60 [1433, 1435] (by decide +kernel) (by decide +kernel)

/-! java/lang/StringLatin1 -/
set_option maxRecDepth 100000
def RJ7 : String := "java/lang/StringLatin1"
abbrev cJ7_charAt : ByteArray := prog_33_method_2_code
def yJ7_charAt : MethodName := ⟨RJ7, "charAt", "([BI)C"⟩
def dkwJ7_charAt_0 : List UInt8 := [27, 42, 190, 184, 0, 9, 42, 27, 51, 17, 0, 255, 126, 146, 172]
abbrev dktJ7_charAt_0 : List UInt8 := dkwJ7_charAt_0 ++ []
theorem dksJ7_charAt_0 : cJ7_charAt.data.toList.drop 0 = dktJ7_charAt_0 := by decide +kernel
theorem dJ7_charAt_0 : decode cJ7_charAt 0 = .ok (.iload_n 1, 1) := dk_27 (dk_at dksJ7_charAt_0 0 rfl rfl)
theorem dJ7_charAt_1 : decode cJ7_charAt 1 = .ok (.aload_n 0, 1) := dk_42 (dk_at dksJ7_charAt_0 1 rfl rfl)
theorem dJ7_charAt_2 : decode cJ7_charAt 2 = .ok (.arraylength, 1) := dk_190 (dk_at dksJ7_charAt_0 2 rfl rfl)
theorem dJ7_charAt_3 : decode cJ7_charAt 3 = .ok (.invokestatic 9, 3) := dk_184 0 9 (dk_at dksJ7_charAt_0 3 rfl rfl)
theorem dJ7_charAt_6 : decode cJ7_charAt 6 = .ok (.aload_n 0, 1) := dk_42 (dk_at dksJ7_charAt_0 6 rfl rfl)
theorem dJ7_charAt_7 : decode cJ7_charAt 7 = .ok (.iload_n 1, 1) := dk_27 (dk_at dksJ7_charAt_0 7 rfl rfl)
theorem dJ7_charAt_8 : decode cJ7_charAt 8 = .ok (.baload, 1) := dk_51 (dk_at dksJ7_charAt_0 8 rfl rfl)
theorem dJ7_charAt_9 : decode cJ7_charAt 9 = .ok (.sipush 255, 3) := dk_17 0 255 (dk_at dksJ7_charAt_0 9 rfl rfl)
theorem dJ7_charAt_12 : decode cJ7_charAt 12 = .ok (.iand, 1) := dk_126 (dk_at dksJ7_charAt_0 12 rfl rfl)
theorem dJ7_charAt_13 : decode cJ7_charAt 13 = .ok (.i2c, 1) := dk_146 (dk_at dksJ7_charAt_0 13 rfl rfl)
theorem dJ7_charAt_14 : decode cJ7_charAt 14 = .ok (.ireturn, 1) := dk_172 (dk_at dksJ7_charAt_0 14 rfl rfl)
theorem q156 : (Jvm.Cond.initialized "java/lang/StringLatin1") ∈ lw_all := lw_g (lw_at lw_m1 20 rfl) rfl
theorem q677 : (Jvm.Cond.static ({ cls := "java/lang/StringLatin1", name := "charAt", desc := "([BI)C" } : Jvm.MethodName)) ∈ lw_all := lw_g (lw_at lw_m3 61 rfl) rfl
theorem q678 : (Jvm.Cond.code ({ cls := "java/lang/StringLatin1", name := "charAt", desc := "([BI)C" } : Jvm.MethodName) prog_33_method_2_code (2 : Nat) (Option.some Jvm.ClassFile.FieldType.char)) ∈ lw_all := lw_g (lw_at lw_m3 62 rfl) rfl
theorem q679 : (Jvm.Cond.methodLink "java/lang/StringLatin1" (9 : Nat) ({ cls := "java/lang/String", name := "checkIndex", desc := "(II)V" } : Jvm.MethodName)) ∈ lw_all := lw_g (lw_at lw_m3 63 rfl) rfl

/-! java/lang/StringUTF16 -/
set_option maxRecDepth 100000
def RJ8 : String := "java/lang/StringUTF16"
abbrev cJ8_charAt : ByteArray := prog_34_method_83_code
def yJ8_charAt : MethodName := ⟨RJ8, "charAt", "([BI)C"⟩
def dkwJ8_charAt_0 : List UInt8 := [27, 42, 184, 0, 67, 42, 27, 184, 0, 71, 172]
abbrev dktJ8_charAt_0 : List UInt8 := dkwJ8_charAt_0 ++ []
theorem dksJ8_charAt_0 : cJ8_charAt.data.toList.drop 0 = dktJ8_charAt_0 := by decide +kernel
theorem dJ8_charAt_0 : decode cJ8_charAt 0 = .ok (.iload_n 1, 1) := dk_27 (dk_at dksJ8_charAt_0 0 rfl rfl)
theorem dJ8_charAt_1 : decode cJ8_charAt 1 = .ok (.aload_n 0, 1) := dk_42 (dk_at dksJ8_charAt_0 1 rfl rfl)
theorem dJ8_charAt_2 : decode cJ8_charAt 2 = .ok (.invokestatic 67, 3) := dk_184 0 67 (dk_at dksJ8_charAt_0 2 rfl rfl)
theorem dJ8_charAt_5 : decode cJ8_charAt 5 = .ok (.aload_n 0, 1) := dk_42 (dk_at dksJ8_charAt_0 5 rfl rfl)
theorem dJ8_charAt_6 : decode cJ8_charAt 6 = .ok (.iload_n 1, 1) := dk_27 (dk_at dksJ8_charAt_0 6 rfl rfl)
theorem dJ8_charAt_7 : decode cJ8_charAt 7 = .ok (.invokestatic 71, 3) := dk_184 0 71 (dk_at dksJ8_charAt_0 7 rfl rfl)
theorem dJ8_charAt_10 : decode cJ8_charAt 10 = .ok (.ireturn, 1) := dk_172 (dk_at dksJ8_charAt_0 10 rfl rfl)
abbrev cJ8_checkIndex : ByteArray := prog_34_method_91_code
def yJ8_checkIndex : MethodName := ⟨RJ8, "checkIndex", "(I[B)V"⟩
def dkwJ8_checkIndex_0 : List UInt8 := [26, 43, 184, 0, 48, 184, 1, 158, 177]
abbrev dktJ8_checkIndex_0 : List UInt8 := dkwJ8_checkIndex_0 ++ []
theorem dksJ8_checkIndex_0 : cJ8_checkIndex.data.toList.drop 0 = dktJ8_checkIndex_0 := by decide +kernel
theorem dJ8_checkIndex_0 : decode cJ8_checkIndex 0 = .ok (.iload_n 0, 1) := dk_26 (dk_at dksJ8_checkIndex_0 0 rfl rfl)
theorem dJ8_checkIndex_1 : decode cJ8_checkIndex 1 = .ok (.aload_n 1, 1) := dk_43 (dk_at dksJ8_checkIndex_0 1 rfl rfl)
theorem dJ8_checkIndex_2 : decode cJ8_checkIndex 2 = .ok (.invokestatic 48, 3) := dk_184 0 48 (dk_at dksJ8_checkIndex_0 2 rfl rfl)
theorem dJ8_checkIndex_5 : decode cJ8_checkIndex 5 = .ok (.invokestatic 414, 3) := dk_184 1 158 (dk_at dksJ8_checkIndex_0 5 rfl rfl)
theorem dJ8_checkIndex_8 : decode cJ8_checkIndex 8 = .ok (.return_, 1) := dk_177 (dk_at dksJ8_checkIndex_0 8 rfl rfl)
abbrev cJ8_length : ByteArray := prog_34_method_6_code
def yJ8_length : MethodName := ⟨RJ8, "length", "([B)I"⟩
def dkwJ8_length_0 : List UInt8 := [42, 190, 4, 122, 172]
abbrev dktJ8_length_0 : List UInt8 := dkwJ8_length_0 ++ []
theorem dksJ8_length_0 : cJ8_length.data.toList.drop 0 = dktJ8_length_0 := by decide +kernel
theorem dJ8_length_0 : decode cJ8_length 0 = .ok (.aload_n 0, 1) := dk_42 (dk_at dksJ8_length_0 0 rfl rfl)
theorem dJ8_length_1 : decode cJ8_length 1 = .ok (.arraylength, 1) := dk_190 (dk_at dksJ8_length_0 1 rfl rfl)
theorem dJ8_length_2 : decode cJ8_length 2 = .ok (.iconst 1, 1) := dk_4 (dk_at dksJ8_length_0 2 rfl rfl)
theorem dJ8_length_3 : decode cJ8_length 3 = .ok (.ishr, 1) := dk_122 (dk_at dksJ8_length_0 3 rfl rfl)
theorem dJ8_length_4 : decode cJ8_length 4 = .ok (.ireturn, 1) := dk_172 (dk_at dksJ8_length_0 4 rfl rfl)
abbrev cJ8_getChar : ByteArray := prog_34_method_5_code
def yJ8_getChar : MethodName := ⟨RJ8, "getChar", "([BI)C"⟩
def dkwJ8_getChar_2 : List UInt8 := [51, 17, 0, 255, 126, 178, 0, 63, 120, 128, 146, 172]
abbrev dktJ8_getChar_2 : List UInt8 := dkwJ8_getChar_2 ++ []
def dkwJ8_getChar_1 : List UInt8 := [183, 0, 56, 191, 27, 4, 120, 60, 42, 27, 132, 1, 1, 51, 17, 0, 255, 126, 178, 0, 59, 120, 42, 27]
abbrev dktJ8_getChar_1 : List UInt8 := dkwJ8_getChar_1 ++ dktJ8_getChar_2
def dkwJ8_getChar_0 : List UInt8 := [178, 0, 44, 154, 0, 25, 27, 155, 0, 11, 27, 42, 184, 0, 48, 161, 0, 13, 187, 0, 52, 89, 18, 54]
abbrev dktJ8_getChar_0 : List UInt8 := dkwJ8_getChar_0 ++ dktJ8_getChar_1
theorem dksJ8_getChar_0 : cJ8_getChar.data.toList.drop 0 = dktJ8_getChar_0 := by decide +kernel
theorem dksJ8_getChar_1 : cJ8_getChar.data.toList.drop 24 = dktJ8_getChar_1 := dk_seg dksJ8_getChar_0 24 rfl rfl
theorem dksJ8_getChar_2 : cJ8_getChar.data.toList.drop 48 = dktJ8_getChar_2 := dk_seg dksJ8_getChar_1 24 rfl rfl
theorem dJ8_getChar_0 : decode cJ8_getChar 0 = .ok (.getstatic 44, 3) := dk_178 0 44 (dk_at dksJ8_getChar_0 0 rfl rfl)
theorem dJ8_getChar_3 : decode cJ8_getChar 3 = .ok (.ifCond .ne 25, 3) := dk_154 0 25 (dk_at dksJ8_getChar_0 3 rfl rfl)
theorem dJ8_getChar_6 : decode cJ8_getChar 6 = .ok (.iload_n 1, 1) := dk_27 (dk_at dksJ8_getChar_0 6 rfl rfl)
theorem dJ8_getChar_7 : decode cJ8_getChar 7 = .ok (.ifCond .lt 11, 3) := dk_155 0 11 (dk_at dksJ8_getChar_0 7 rfl rfl)
theorem dJ8_getChar_10 : decode cJ8_getChar 10 = .ok (.iload_n 1, 1) := dk_27 (dk_at dksJ8_getChar_0 10 rfl rfl)
theorem dJ8_getChar_11 : decode cJ8_getChar 11 = .ok (.aload_n 0, 1) := dk_42 (dk_at dksJ8_getChar_0 11 rfl rfl)
theorem dJ8_getChar_12 : decode cJ8_getChar 12 = .ok (.invokestatic 48, 3) := dk_184 0 48 (dk_at dksJ8_getChar_0 12 rfl rfl)
theorem dJ8_getChar_15 : decode cJ8_getChar 15 = .ok (.if_icmp .lt 13, 3) := dk_161 0 13 (dk_at dksJ8_getChar_0 15 rfl rfl)
theorem dJ8_getChar_18 : decode cJ8_getChar 18 = .ok (.new 52, 3) := dk_187 0 52 (dk_at dksJ8_getChar_0 18 rfl rfl)
theorem dJ8_getChar_21 : decode cJ8_getChar 21 = .ok (.dup, 1) := dk_89 (dk_at dksJ8_getChar_0 21 rfl rfl)
theorem dJ8_getChar_22 : decode cJ8_getChar 22 = .ok (.ldc 54, 2) := dk_18 54 (dk_at dksJ8_getChar_0 22 rfl rfl)
theorem dJ8_getChar_24 : decode cJ8_getChar 24 = .ok (.invokespecial 56, 3) := dk_183 0 56 (dk_at dksJ8_getChar_1 0 rfl rfl)
theorem dJ8_getChar_27 : decode cJ8_getChar 27 = .ok (.athrow, 1) := dk_191 (dk_at dksJ8_getChar_1 3 rfl rfl)
theorem dJ8_getChar_28 : decode cJ8_getChar 28 = .ok (.iload_n 1, 1) := dk_27 (dk_at dksJ8_getChar_1 4 rfl rfl)
theorem dJ8_getChar_29 : decode cJ8_getChar 29 = .ok (.iconst 1, 1) := dk_4 (dk_at dksJ8_getChar_1 5 rfl rfl)
theorem dJ8_getChar_30 : decode cJ8_getChar 30 = .ok (.ishl, 1) := dk_120 (dk_at dksJ8_getChar_1 6 rfl rfl)
theorem dJ8_getChar_31 : decode cJ8_getChar 31 = .ok (.istore_n 1, 1) := dk_60 (dk_at dksJ8_getChar_1 7 rfl rfl)
theorem dJ8_getChar_32 : decode cJ8_getChar 32 = .ok (.aload_n 0, 1) := dk_42 (dk_at dksJ8_getChar_1 8 rfl rfl)
theorem dJ8_getChar_33 : decode cJ8_getChar 33 = .ok (.iload_n 1, 1) := dk_27 (dk_at dksJ8_getChar_1 9 rfl rfl)
theorem dJ8_getChar_34 : decode cJ8_getChar 34 = .ok (.iinc 1 1, 3) := dk_132 1 1 (dk_at dksJ8_getChar_1 10 rfl rfl)
theorem dJ8_getChar_37 : decode cJ8_getChar 37 = .ok (.baload, 1) := dk_51 (dk_at dksJ8_getChar_1 13 rfl rfl)
theorem dJ8_getChar_38 : decode cJ8_getChar 38 = .ok (.sipush 255, 3) := dk_17 0 255 (dk_at dksJ8_getChar_1 14 rfl rfl)
theorem dJ8_getChar_41 : decode cJ8_getChar 41 = .ok (.iand, 1) := dk_126 (dk_at dksJ8_getChar_1 17 rfl rfl)
theorem dJ8_getChar_42 : decode cJ8_getChar 42 = .ok (.getstatic 59, 3) := dk_178 0 59 (dk_at dksJ8_getChar_1 18 rfl rfl)
theorem dJ8_getChar_45 : decode cJ8_getChar 45 = .ok (.ishl, 1) := dk_120 (dk_at dksJ8_getChar_1 21 rfl rfl)
theorem dJ8_getChar_46 : decode cJ8_getChar 46 = .ok (.aload_n 0, 1) := dk_42 (dk_at dksJ8_getChar_1 22 rfl rfl)
theorem dJ8_getChar_47 : decode cJ8_getChar 47 = .ok (.iload_n 1, 1) := dk_27 (dk_at dksJ8_getChar_1 23 rfl rfl)
theorem dJ8_getChar_48 : decode cJ8_getChar 48 = .ok (.baload, 1) := dk_51 (dk_at dksJ8_getChar_2 0 rfl rfl)
theorem dJ8_getChar_49 : decode cJ8_getChar 49 = .ok (.sipush 255, 3) := dk_17 0 255 (dk_at dksJ8_getChar_2 1 rfl rfl)
theorem dJ8_getChar_52 : decode cJ8_getChar 52 = .ok (.iand, 1) := dk_126 (dk_at dksJ8_getChar_2 4 rfl rfl)
theorem dJ8_getChar_53 : decode cJ8_getChar 53 = .ok (.getstatic 63, 3) := dk_178 0 63 (dk_at dksJ8_getChar_2 5 rfl rfl)
theorem dJ8_getChar_56 : decode cJ8_getChar 56 = .ok (.ishl, 1) := dk_120 (dk_at dksJ8_getChar_2 8 rfl rfl)
theorem dJ8_getChar_57 : decode cJ8_getChar 57 = .ok (.ior, 1) := dk_128 (dk_at dksJ8_getChar_2 9 rfl rfl)
theorem dJ8_getChar_58 : decode cJ8_getChar 58 = .ok (.i2c, 1) := dk_146 (dk_at dksJ8_getChar_2 10 rfl rfl)
theorem dJ8_getChar_59 : decode cJ8_getChar 59 = .ok (.ireturn, 1) := dk_172 (dk_at dksJ8_getChar_2 11 rfl rfl)
theorem q157 : (Jvm.Cond.initialized "java/lang/StringUTF16") ∈ lw_all := lw_g (lw_at lw_m1 21 rfl) rfl
theorem q686 : (Jvm.Cond.static ({ cls := "java/lang/StringUTF16", name := "charAt", desc := "([BI)C" } : Jvm.MethodName)) ∈ lw_all := lw_g (lw_at lw_m3 70 rfl) rfl
theorem q687 : (Jvm.Cond.code ({ cls := "java/lang/StringUTF16", name := "charAt", desc := "([BI)C" } : Jvm.MethodName) prog_34_method_83_code (2 : Nat) (Option.some Jvm.ClassFile.FieldType.char)) ∈ lw_all := lw_g (lw_at lw_m3 71 rfl) rfl
theorem q688 : (Jvm.Cond.methodLink "java/lang/StringUTF16" (67 : Nat) ({ cls := "java/lang/StringUTF16", name := "checkIndex", desc := "(I[B)V" } : Jvm.MethodName)) ∈ lw_all := lw_g (lw_at lw_m3 72 rfl) rfl
theorem q689 : (Jvm.Cond.static ({ cls := "java/lang/StringUTF16", name := "checkIndex", desc := "(I[B)V" } : Jvm.MethodName)) ∈ lw_all := lw_g (lw_at lw_m3 73 rfl) rfl
theorem q690 : (Jvm.Cond.code ({ cls := "java/lang/StringUTF16", name := "checkIndex", desc := "(I[B)V" } : Jvm.MethodName) prog_34_method_91_code (2 : Nat) (Option.none : Option Jvm.ClassFile.FieldType)) ∈ lw_all := lw_g (lw_at lw_m3 74 rfl) rfl
theorem q691 : (Jvm.Cond.methodLink "java/lang/StringUTF16" (48 : Nat) ({ cls := "java/lang/StringUTF16", name := "length", desc := "([B)I" } : Jvm.MethodName)) ∈ lw_all := lw_g (lw_at lw_m3 75 rfl) rfl
theorem q692 : (Jvm.Cond.static ({ cls := "java/lang/StringUTF16", name := "length", desc := "([B)I" } : Jvm.MethodName)) ∈ lw_all := lw_g (lw_at lw_m3 76 rfl) rfl
theorem q693 : (Jvm.Cond.code ({ cls := "java/lang/StringUTF16", name := "length", desc := "([B)I" } : Jvm.MethodName) prog_34_method_6_code (1 : Nat) (Option.some Jvm.ClassFile.FieldType.int)) ∈ lw_all := lw_g (lw_at lw_m3 77 rfl) rfl
theorem q694 : (Jvm.Cond.methodLink "java/lang/StringUTF16" (414 : Nat) ({ cls := "java/lang/String", name := "checkIndex", desc := "(II)V" } : Jvm.MethodName)) ∈ lw_all := lw_g (lw_at lw_m3 78 rfl) rfl
theorem q695 : (Jvm.Cond.methodLink "java/lang/StringUTF16" (71 : Nat) ({ cls := "java/lang/StringUTF16", name := "getChar", desc := "([BI)C" } : Jvm.MethodName)) ∈ lw_all := lw_g (lw_at lw_m3 79 rfl) rfl
theorem q696 : (Jvm.Cond.static ({ cls := "java/lang/StringUTF16", name := "getChar", desc := "([BI)C" } : Jvm.MethodName)) ∈ lw_all := lw_g (lw_at lw_m3 80 rfl) rfl
theorem q697 : (Jvm.Cond.code ({ cls := "java/lang/StringUTF16", name := "getChar", desc := "([BI)C" } : Jvm.MethodName) prog_34_method_5_code (2 : Nat) (Option.some Jvm.ClassFile.FieldType.char)) ∈ lw_all := lw_g (lw_at lw_m3 81 rfl) rfl
theorem q698 : (Jvm.Cond.fieldLink "java/lang/StringUTF16" (44 : Nat) "java/lang/StringUTF16" "$assertionsDisabled" "Z") ∈ lw_all := lw_g (lw_at lw_m3 82 rfl) rfl
theorem q699 : (Jvm.Cond.laysStatic "java/lang/StringUTF16" "$assertionsDisabled" "Z") ∈ lw_tbl := lw_at lw_m3 83 rfl
theorem q700 : (Jvm.Cond.fieldLink "java/lang/StringUTF16" (59 : Nat) "java/lang/StringUTF16" "HI_BYTE_SHIFT" "I") ∈ lw_all := lw_g (lw_at lw_m3 84 rfl) rfl
theorem q701 : (Jvm.Cond.laysStatic "java/lang/StringUTF16" "HI_BYTE_SHIFT" "I") ∈ lw_tbl := lw_at lw_m3 85 rfl
theorem q702 : (Jvm.Cond.fieldLink "java/lang/StringUTF16" (63 : Nat) "java/lang/StringUTF16" "LO_BYTE_SHIFT" "I") ∈ lw_all := lw_g (lw_at lw_m3 86 rfl) rfl
theorem q703 : (Jvm.Cond.laysStatic "java/lang/StringUTF16" "LO_BYTE_SHIFT" "I") ∈ lw_tbl := lw_at lw_m3 87 rfl

/-! java/lang/Throwable -/
set_option maxRecDepth 100000
def RJ9 : String := "java/lang/Throwable"
def TJ9 : u_T := fun k => match k with
  | 0 => ("java/lang/Throwable", "cause", "Ljava/lang/Throwable;", false)
  | 1 => ("java/lang/Throwable", "stackTrace", "[Ljava/lang/StackTraceElement;", false)
  | 2 => ("java/lang/Throwable", "suppressedExceptions", "Ljava/util/List;", false)
  | 3 => ("java/lang/Throwable", "detailMessage", "Ljava/lang/String;", false)
  | _ => ("java/lang/Throwable", "backtrace", "Ljava/lang/Object;", false)
def tyJ9 : Nat → FieldType := fun k => match k with
  | 0 => .object "java/lang/Throwable"
  | 1 => .array (.object "java/lang/StackTraceElement")
  | 2 => .object "java/util/List"
  | 3 => .object "java/lang/String"
  | _ => .object "java/lang/Object"
abbrev wsJ90 : List Cond := u_ws RJ9 TJ9 5
theorem nmJ9 : ∀ a, a < 5 → ∀ b, b < 5 → a ≠ b → (TJ9 a).2.1 ≠ (TJ9 b).2.1 := by decide +kernel
theorem tyJ9_ok : ∀ k, k < 5 → parseFieldDescriptor (TJ9 k).2.2.1 = some (tyJ9 k) := by decide +kernel
abbrev cJ9_init : ByteArray := prog_36_method_1_code
def yJ9_init : MethodName := ⟨RJ9, "<init>", "()V"⟩
def dkwJ9_init_1 : List UInt8 := [182, 0, 27, 87, 177]
abbrev dktJ9_init_1 : List UInt8 := dkwJ9_init_1 ++ []
def dkwJ9_init_0 : List UInt8 := [42, 183, 0, 1, 42, 42, 181, 0, 7, 42, 178, 0, 13, 181, 0, 17, 42, 178, 0, 20, 181, 0, 24, 42]
abbrev dktJ9_init_0 : List UInt8 := dkwJ9_init_0 ++ dktJ9_init_1
theorem dksJ9_init_0 : cJ9_init.data.toList.drop 0 = dktJ9_init_0 := by decide +kernel
theorem dksJ9_init_1 : cJ9_init.data.toList.drop 24 = dktJ9_init_1 := dk_seg dksJ9_init_0 24 rfl rfl
theorem dJ9_init_0 : decode cJ9_init 0 = .ok (.aload_n 0, 1) := dk_42 (dk_at dksJ9_init_0 0 rfl rfl)
theorem dJ9_init_1 : decode cJ9_init 1 = .ok (.invokespecial 1, 3) := dk_183 0 1 (dk_at dksJ9_init_0 1 rfl rfl)
theorem dJ9_init_4 : decode cJ9_init 4 = .ok (.aload_n 0, 1) := dk_42 (dk_at dksJ9_init_0 4 rfl rfl)
theorem dJ9_init_5 : decode cJ9_init 5 = .ok (.aload_n 0, 1) := dk_42 (dk_at dksJ9_init_0 5 rfl rfl)
theorem dJ9_init_6 : decode cJ9_init 6 = .ok (.putfield 7, 3) := dk_181 0 7 (dk_at dksJ9_init_0 6 rfl rfl)
theorem dJ9_init_9 : decode cJ9_init 9 = .ok (.aload_n 0, 1) := dk_42 (dk_at dksJ9_init_0 9 rfl rfl)
theorem dJ9_init_10 : decode cJ9_init 10 = .ok (.getstatic 13, 3) := dk_178 0 13 (dk_at dksJ9_init_0 10 rfl rfl)
theorem dJ9_init_13 : decode cJ9_init 13 = .ok (.putfield 17, 3) := dk_181 0 17 (dk_at dksJ9_init_0 13 rfl rfl)
theorem dJ9_init_16 : decode cJ9_init 16 = .ok (.aload_n 0, 1) := dk_42 (dk_at dksJ9_init_0 16 rfl rfl)
theorem dJ9_init_17 : decode cJ9_init 17 = .ok (.getstatic 20, 3) := dk_178 0 20 (dk_at dksJ9_init_0 17 rfl rfl)
theorem dJ9_init_20 : decode cJ9_init 20 = .ok (.putfield 24, 3) := dk_181 0 24 (dk_at dksJ9_init_0 20 rfl rfl)
theorem dJ9_init_23 : decode cJ9_init 23 = .ok (.aload_n 0, 1) := dk_42 (dk_at dksJ9_init_0 23 rfl rfl)
theorem dJ9_init_24 : decode cJ9_init 24 = .ok (.invokevirtual 27, 3) := dk_182 0 27 (dk_at dksJ9_init_1 0 rfl rfl)
theorem dJ9_init_27 : decode cJ9_init 27 = .ok (.pop, 1) := dk_87 (dk_at dksJ9_init_1 3 rfl rfl)
theorem dJ9_init_28 : decode cJ9_init 28 = .ok (.return_, 1) := dk_177 (dk_at dksJ9_init_1 4 rfl rfl)
abbrev cJ9_init_2 : ByteArray := prog_36_method_5_code
def yJ9_init_2 : MethodName := ⟨RJ9, "<init>", "(Ljava/lang/String;Ljava/lang/Throwable;ZZ)V"⟩
def dkwJ9_init_2_2 : List UInt8 := [44, 181, 0, 7, 29, 154, 0, 8, 42, 1, 181, 0, 24, 177]
abbrev dktJ9_init_2_2 : List UInt8 := dkwJ9_init_2_2 ++ []
def dkwJ9_init_2_1 : List UInt8 := [21, 4, 153, 0, 11, 42, 182, 0, 27, 87, 167, 0, 8, 42, 1, 181, 0, 17, 42, 43, 181, 0, 31, 42]
abbrev dktJ9_init_2_1 : List UInt8 := dkwJ9_init_2_1 ++ dktJ9_init_2_2
def dkwJ9_init_2_0 : List UInt8 := [42, 183, 0, 1, 42, 42, 181, 0, 7, 42, 178, 0, 13, 181, 0, 17, 42, 178, 0, 20, 181, 0, 24]
abbrev dktJ9_init_2_0 : List UInt8 := dkwJ9_init_2_0 ++ dktJ9_init_2_1
theorem dksJ9_init_2_0 : cJ9_init_2.data.toList.drop 0 = dktJ9_init_2_0 := by decide +kernel
theorem dksJ9_init_2_1 : cJ9_init_2.data.toList.drop 23 = dktJ9_init_2_1 := dk_seg dksJ9_init_2_0 23 rfl rfl
theorem dksJ9_init_2_2 : cJ9_init_2.data.toList.drop 47 = dktJ9_init_2_2 := dk_seg dksJ9_init_2_1 24 rfl rfl
theorem dJ9_init_2_0 : decode cJ9_init_2 0 = .ok (.aload_n 0, 1) := dk_42 (dk_at dksJ9_init_2_0 0 rfl rfl)
theorem dJ9_init_2_1 : decode cJ9_init_2 1 = .ok (.invokespecial 1, 3) := dk_183 0 1 (dk_at dksJ9_init_2_0 1 rfl rfl)
theorem dJ9_init_2_4 : decode cJ9_init_2 4 = .ok (.aload_n 0, 1) := dk_42 (dk_at dksJ9_init_2_0 4 rfl rfl)
theorem dJ9_init_2_5 : decode cJ9_init_2 5 = .ok (.aload_n 0, 1) := dk_42 (dk_at dksJ9_init_2_0 5 rfl rfl)
theorem dJ9_init_2_6 : decode cJ9_init_2 6 = .ok (.putfield 7, 3) := dk_181 0 7 (dk_at dksJ9_init_2_0 6 rfl rfl)
theorem dJ9_init_2_9 : decode cJ9_init_2 9 = .ok (.aload_n 0, 1) := dk_42 (dk_at dksJ9_init_2_0 9 rfl rfl)
theorem dJ9_init_2_10 : decode cJ9_init_2 10 = .ok (.getstatic 13, 3) := dk_178 0 13 (dk_at dksJ9_init_2_0 10 rfl rfl)
theorem dJ9_init_2_13 : decode cJ9_init_2 13 = .ok (.putfield 17, 3) := dk_181 0 17 (dk_at dksJ9_init_2_0 13 rfl rfl)
theorem dJ9_init_2_16 : decode cJ9_init_2 16 = .ok (.aload_n 0, 1) := dk_42 (dk_at dksJ9_init_2_0 16 rfl rfl)
theorem dJ9_init_2_17 : decode cJ9_init_2 17 = .ok (.getstatic 20, 3) := dk_178 0 20 (dk_at dksJ9_init_2_0 17 rfl rfl)
theorem dJ9_init_2_20 : decode cJ9_init_2 20 = .ok (.putfield 24, 3) := dk_181 0 24 (dk_at dksJ9_init_2_0 20 rfl rfl)
theorem dJ9_init_2_23 : decode cJ9_init_2 23 = .ok (.iload 4, 2) := dk_21 4 (dk_at dksJ9_init_2_1 0 rfl rfl)
theorem dJ9_init_2_25 : decode cJ9_init_2 25 = .ok (.ifCond .eq 11, 3) := dk_153 0 11 (dk_at dksJ9_init_2_1 2 rfl rfl)
theorem dJ9_init_2_28 : decode cJ9_init_2 28 = .ok (.aload_n 0, 1) := dk_42 (dk_at dksJ9_init_2_1 5 rfl rfl)
theorem dJ9_init_2_29 : decode cJ9_init_2 29 = .ok (.invokevirtual 27, 3) := dk_182 0 27 (dk_at dksJ9_init_2_1 6 rfl rfl)
theorem dJ9_init_2_32 : decode cJ9_init_2 32 = .ok (.pop, 1) := dk_87 (dk_at dksJ9_init_2_1 9 rfl rfl)
theorem dJ9_init_2_33 : decode cJ9_init_2 33 = .ok (.goto 8, 3) := dk_167 0 8 (dk_at dksJ9_init_2_1 10 rfl rfl)
theorem dJ9_init_2_36 : decode cJ9_init_2 36 = .ok (.aload_n 0, 1) := dk_42 (dk_at dksJ9_init_2_1 13 rfl rfl)
theorem dJ9_init_2_37 : decode cJ9_init_2 37 = .ok (.aconst_null, 1) := dk_1 (dk_at dksJ9_init_2_1 14 rfl rfl)
theorem dJ9_init_2_38 : decode cJ9_init_2 38 = .ok (.putfield 17, 3) := dk_181 0 17 (dk_at dksJ9_init_2_1 15 rfl rfl)
theorem dJ9_init_2_41 : decode cJ9_init_2 41 = .ok (.aload_n 0, 1) := dk_42 (dk_at dksJ9_init_2_1 18 rfl rfl)
theorem dJ9_init_2_42 : decode cJ9_init_2 42 = .ok (.aload_n 1, 1) := dk_43 (dk_at dksJ9_init_2_1 19 rfl rfl)
theorem dJ9_init_2_43 : decode cJ9_init_2 43 = .ok (.putfield 31, 3) := dk_181 0 31 (dk_at dksJ9_init_2_1 20 rfl rfl)
theorem dJ9_init_2_46 : decode cJ9_init_2 46 = .ok (.aload_n 0, 1) := dk_42 (dk_at dksJ9_init_2_1 23 rfl rfl)
theorem dJ9_init_2_47 : decode cJ9_init_2 47 = .ok (.aload_n 2, 1) := dk_44 (dk_at dksJ9_init_2_2 0 rfl rfl)
theorem dJ9_init_2_48 : decode cJ9_init_2 48 = .ok (.putfield 7, 3) := dk_181 0 7 (dk_at dksJ9_init_2_2 1 rfl rfl)
theorem dJ9_init_2_51 : decode cJ9_init_2 51 = .ok (.iload_n 3, 1) := dk_29 (dk_at dksJ9_init_2_2 4 rfl rfl)
theorem dJ9_init_2_52 : decode cJ9_init_2 52 = .ok (.ifCond .ne 8, 3) := dk_154 0 8 (dk_at dksJ9_init_2_2 5 rfl rfl)
theorem dJ9_init_2_55 : decode cJ9_init_2 55 = .ok (.aload_n 0, 1) := dk_42 (dk_at dksJ9_init_2_2 8 rfl rfl)
theorem dJ9_init_2_56 : decode cJ9_init_2 56 = .ok (.aconst_null, 1) := dk_1 (dk_at dksJ9_init_2_2 9 rfl rfl)
theorem dJ9_init_2_57 : decode cJ9_init_2 57 = .ok (.putfield 24, 3) := dk_181 0 24 (dk_at dksJ9_init_2_2 10 rfl rfl)
theorem dJ9_init_2_60 : decode cJ9_init_2 60 = .ok (.return_, 1) := dk_177 (dk_at dksJ9_init_2_2 13 rfl rfl)
abbrev cJ9_init_3 : ByteArray := prog_36_method_2_code
def yJ9_init_3 : MethodName := ⟨RJ9, "<init>", "(Ljava/lang/String;)V"⟩
def dkwJ9_init_3_1 : List UInt8 := [182, 0, 27, 87, 42, 43, 181, 0, 31, 177]
abbrev dktJ9_init_3_1 : List UInt8 := dkwJ9_init_3_1 ++ []
def dkwJ9_init_3_0 : List UInt8 := [42, 183, 0, 1, 42, 42, 181, 0, 7, 42, 178, 0, 13, 181, 0, 17, 42, 178, 0, 20, 181, 0, 24, 42]
abbrev dktJ9_init_3_0 : List UInt8 := dkwJ9_init_3_0 ++ dktJ9_init_3_1
theorem dksJ9_init_3_0 : cJ9_init_3.data.toList.drop 0 = dktJ9_init_3_0 := by decide +kernel
theorem dksJ9_init_3_1 : cJ9_init_3.data.toList.drop 24 = dktJ9_init_3_1 := dk_seg dksJ9_init_3_0 24 rfl rfl
theorem dJ9_init_3_0 : decode cJ9_init_3 0 = .ok (.aload_n 0, 1) := dk_42 (dk_at dksJ9_init_3_0 0 rfl rfl)
theorem dJ9_init_3_1 : decode cJ9_init_3 1 = .ok (.invokespecial 1, 3) := dk_183 0 1 (dk_at dksJ9_init_3_0 1 rfl rfl)
theorem dJ9_init_3_4 : decode cJ9_init_3 4 = .ok (.aload_n 0, 1) := dk_42 (dk_at dksJ9_init_3_0 4 rfl rfl)
theorem dJ9_init_3_5 : decode cJ9_init_3 5 = .ok (.aload_n 0, 1) := dk_42 (dk_at dksJ9_init_3_0 5 rfl rfl)
theorem dJ9_init_3_6 : decode cJ9_init_3 6 = .ok (.putfield 7, 3) := dk_181 0 7 (dk_at dksJ9_init_3_0 6 rfl rfl)
theorem dJ9_init_3_9 : decode cJ9_init_3 9 = .ok (.aload_n 0, 1) := dk_42 (dk_at dksJ9_init_3_0 9 rfl rfl)
theorem dJ9_init_3_10 : decode cJ9_init_3 10 = .ok (.getstatic 13, 3) := dk_178 0 13 (dk_at dksJ9_init_3_0 10 rfl rfl)
theorem dJ9_init_3_13 : decode cJ9_init_3 13 = .ok (.putfield 17, 3) := dk_181 0 17 (dk_at dksJ9_init_3_0 13 rfl rfl)
theorem dJ9_init_3_16 : decode cJ9_init_3 16 = .ok (.aload_n 0, 1) := dk_42 (dk_at dksJ9_init_3_0 16 rfl rfl)
theorem dJ9_init_3_17 : decode cJ9_init_3 17 = .ok (.getstatic 20, 3) := dk_178 0 20 (dk_at dksJ9_init_3_0 17 rfl rfl)
theorem dJ9_init_3_20 : decode cJ9_init_3 20 = .ok (.putfield 24, 3) := dk_181 0 24 (dk_at dksJ9_init_3_0 20 rfl rfl)
theorem dJ9_init_3_23 : decode cJ9_init_3 23 = .ok (.aload_n 0, 1) := dk_42 (dk_at dksJ9_init_3_0 23 rfl rfl)
theorem dJ9_init_3_24 : decode cJ9_init_3 24 = .ok (.invokevirtual 27, 3) := dk_182 0 27 (dk_at dksJ9_init_3_1 0 rfl rfl)
theorem dJ9_init_3_27 : decode cJ9_init_3 27 = .ok (.pop, 1) := dk_87 (dk_at dksJ9_init_3_1 3 rfl rfl)
theorem dJ9_init_3_28 : decode cJ9_init_3 28 = .ok (.aload_n 0, 1) := dk_42 (dk_at dksJ9_init_3_1 4 rfl rfl)
theorem dJ9_init_3_29 : decode cJ9_init_3 29 = .ok (.aload_n 1, 1) := dk_43 (dk_at dksJ9_init_3_1 5 rfl rfl)
theorem dJ9_init_3_30 : decode cJ9_init_3 30 = .ok (.putfield 31, 3) := dk_181 0 31 (dk_at dksJ9_init_3_1 6 rfl rfl)
theorem dJ9_init_3_33 : decode cJ9_init_3 33 = .ok (.return_, 1) := dk_177 (dk_at dksJ9_init_3_1 9 rfl rfl)
theorem q158 : (Jvm.Cond.initialized "java/lang/Throwable") ∈ lw_all := lw_g (lw_at lw_m1 22 rfl) rfl
theorem q715 : (Jvm.Cond.declares ({ cls := "java/lang/Throwable", name := "<init>", desc := "()V" } : Jvm.MethodName)) ∈ lw_tbl := lw_at lw_m3 99 rfl
theorem q716 : (Jvm.Cond.declares ({ cls := "java/lang/Throwable", name := "<init>", desc := "(Ljava/lang/String;)V" } : Jvm.MethodName)) ∈ lw_tbl := lw_at lw_m3 100 rfl
theorem q720 : (Jvm.Cond.lays "java/lang/Throwable" "java/lang/Throwable" "cause" "Ljava/lang/Throwable;") ∈ lw_all := lw_g (lw_at lw_m3 104 rfl) rfl
theorem q722 : (Jvm.Cond.lays "java/lang/Throwable" "java/lang/Throwable" "stackTrace" "[Ljava/lang/StackTraceElement;") ∈ lw_all := lw_g (lw_at lw_m3 106 rfl) rfl
theorem q724 : (Jvm.Cond.lays "java/lang/Throwable" "java/lang/Throwable" "suppressedExceptions" "Ljava/util/List;") ∈ lw_all := lw_g (lw_at lw_m3 108 rfl) rfl
theorem q726 : (Jvm.Cond.lays "java/lang/Throwable" "java/lang/Throwable" "detailMessage" "Ljava/lang/String;") ∈ lw_all := lw_g (lw_at lw_m3 110 rfl) rfl
theorem q728 : (Jvm.Cond.lays "java/lang/Throwable" "java/lang/Throwable" "backtrace" "Ljava/lang/Object;") ∈ lw_all := lw_g (lw_at lw_m3 112 rfl) rfl
theorem q729 : (Jvm.Cond.fieldLink "java/lang/Throwable" (198 : Nat) "java/lang/Throwable" "backtrace" "Ljava/lang/Object;") ∈ lw_all := lw_g (lw_at lw_m3 113 rfl) rfl
theorem q730 : (Jvm.Cond.superclass "java/lang/Throwable" "java/lang/Object") ∈ lw_all := lw_g (lw_at lw_m3 114 rfl) rfl
theorem q731 : (Jvm.Cond.instanceMethod ({ cls := "java/lang/Throwable", name := "<init>", desc := "()V" } : Jvm.MethodName)) ∈ lw_all := lw_g (lw_at lw_m3 115 rfl) rfl
theorem q732 : (Jvm.Cond.code ({ cls := "java/lang/Throwable", name := "<init>", desc := "()V" } : Jvm.MethodName) prog_36_method_1_code (1 : Nat) (Option.none : Option Jvm.ClassFile.FieldType)) ∈ lw_all := lw_g (lw_at lw_m3 116 rfl) rfl
theorem q733 : (Jvm.Cond.methodLink "java/lang/Throwable" (1 : Nat) ({ cls := "java/lang/Object", name := "<init>", desc := "()V" } : Jvm.MethodName)) ∈ lw_all := lw_g (lw_at lw_m3 117 rfl) rfl
theorem q734 : (Jvm.Cond.fieldLink "java/lang/Throwable" (13 : Nat) "java/lang/Throwable" "UNASSIGNED_STACK" "[Ljava/lang/StackTraceElement;") ∈ lw_all := lw_g (lw_at lw_m3 118 rfl) rfl
theorem q735 : (Jvm.Cond.laysStatic "java/lang/Throwable" "UNASSIGNED_STACK" "[Ljava/lang/StackTraceElement;") ∈ lw_tbl := lw_at lw_m3 119 rfl
theorem q736 : (Jvm.Cond.fieldLink "java/lang/Throwable" (20 : Nat) "java/lang/Throwable" "SUPPRESSED_SENTINEL" "Ljava/util/List;") ∈ lw_all := lw_g (lw_at lw_m3 120 rfl) rfl
theorem q737 : (Jvm.Cond.laysStatic "java/lang/Throwable" "SUPPRESSED_SENTINEL" "Ljava/util/List;") ∈ lw_tbl := lw_at lw_m3 121 rfl
theorem q738 : (Jvm.Cond.methodLink "java/lang/Throwable" (27 : Nat) ({ cls := "java/lang/Throwable", name := "fillInStackTrace", desc := "()Ljava/lang/Throwable;" } : Jvm.MethodName)) ∈ lw_all := lw_g (lw_at lw_m3 122 rfl) rfl
theorem q739 : (Jvm.Cond.instanceMethod ({ cls := "java/lang/Throwable", name := "fillInStackTrace", desc := "()Ljava/lang/Throwable;" } : Jvm.MethodName)) ∈ lw_all := lw_g (lw_at lw_m3 123 rfl) rfl
theorem q740 : (Jvm.Cond.sameMethod "java/lang/Throwable" "java/lang/Throwable" "fillInStackTrace" "()Ljava/lang/Throwable;") ∈ lw_all := lw_g (lw_at lw_m3 124 rfl) rfl
theorem q743 : (Jvm.Cond.codeSync ({ cls := "java/lang/Throwable", name := "fillInStackTrace", desc := "()Ljava/lang/Throwable;" } : Jvm.MethodName) prog_36_method_18_code (1 : Nat) (Option.some (Jvm.ClassFile.FieldType.object "java/lang/Throwable"))) ∈ lw_all := lw_g (lw_at lw_m3 127 rfl) rfl
theorem q744 : (Jvm.Cond.methodLink "java/lang/Throwable" (202 : Nat) ({ cls := "java/lang/Throwable", name := "fillInStackTrace", desc := "(I)Ljava/lang/Throwable;" } : Jvm.MethodName)) ∈ lw_all := lw_g (lw_at lw_m3 128 rfl) rfl
theorem q745 : (Jvm.Cond.privateMethod ({ cls := "java/lang/Throwable", name := "fillInStackTrace", desc := "(I)Ljava/lang/Throwable;" } : Jvm.MethodName)) ∈ lw_tbl := lw_at lw_m3 129 rfl
theorem q746 : (Jvm.Cond.instanceMethod ({ cls := "java/lang/Throwable", name := "fillInStackTrace", desc := "(I)Ljava/lang/Throwable;" } : Jvm.MethodName)) ∈ lw_all := lw_g (lw_at lw_m3 130 rfl) rfl
theorem q747 : (Jvm.Cond.instantiable "java/lang/Throwable" (6 : Nat)) ∈ lw_all := lw_g (lw_at lw_m3 131 rfl) rfl
theorem q748 : (Jvm.Cond.native ({ cls := "java/lang/Throwable", name := "fillInStackTrace", desc := "(I)Ljava/lang/Throwable;" } : Jvm.MethodName)) ∈ lw_all := lw_g (lw_at lw_m3 132 rfl) rfl
theorem q759 : (Jvm.Cond.instanceMethod ({ cls := "java/lang/Throwable", name := "<init>", desc := "(Ljava/lang/String;Ljava/lang/Throwable;ZZ)V" } : Jvm.MethodName)) ∈ lw_all := lw_g (lw_at lw_m3 143 rfl) rfl
theorem q760 : (Jvm.Cond.code ({ cls := "java/lang/Throwable", name := "<init>", desc := "(Ljava/lang/String;Ljava/lang/Throwable;ZZ)V" } : Jvm.MethodName) prog_36_method_5_code (5 : Nat) (Option.none : Option Jvm.ClassFile.FieldType)) ∈ lw_all := lw_g (lw_at lw_m3 144 rfl) rfl
theorem q765 : (Jvm.Cond.fieldLink "java/lang/Throwable" (198 : Nat) "java/lang/Throwable" "backtrace" "Ljava/lang/Object;") ∈ lw_all := lw_g (lw_at lw_m3 149 rfl) rfl
theorem q766 : (Jvm.Cond.fieldLink "java/lang/Throwable" (31 : Nat) "java/lang/Throwable" "detailMessage" "Ljava/lang/String;") ∈ lw_all := lw_g (lw_at lw_m3 150 rfl) rfl
theorem q767 : (Jvm.Cond.fieldLink "java/lang/Throwable" (7 : Nat) "java/lang/Throwable" "cause" "Ljava/lang/Throwable;") ∈ lw_all := lw_g (lw_at lw_m3 151 rfl) rfl
theorem q768 : (Jvm.Cond.fieldLink "java/lang/Throwable" (17 : Nat) "java/lang/Throwable" "stackTrace" "[Ljava/lang/StackTraceElement;") ∈ lw_all := lw_g (lw_at lw_m3 152 rfl) rfl
theorem q769 : (Jvm.Cond.fieldLink "java/lang/Throwable" (24 : Nat) "java/lang/Throwable" "suppressedExceptions" "Ljava/util/List;") ∈ lw_all := lw_g (lw_at lw_m3 153 rfl) rfl
theorem q774 : (Jvm.Cond.soleField "java/lang/Throwable" "backtrace") ∈ lw_all := lw_g (lw_at lw_m3 158 rfl) rfl
theorem q775 : (Jvm.Cond.soleField "java/lang/Throwable" "detailMessage") ∈ lw_all := lw_g (lw_at lw_m3 159 rfl) rfl
theorem q776 : (Jvm.Cond.soleField "java/lang/Throwable" "cause") ∈ lw_all := lw_g (lw_at lw_m3 160 rfl) rfl
theorem q777 : (Jvm.Cond.soleField "java/lang/Throwable" "stackTrace") ∈ lw_all := lw_g (lw_at lw_m3 161 rfl) rfl
theorem q779 : (Jvm.Cond.soleField "java/lang/Throwable" "depth") ∈ lw_all := lw_g (lw_at lw_m3 163 rfl) rfl
theorem q780 : (Jvm.Cond.soleField "java/lang/Throwable" "suppressedExceptions") ∈ lw_all := lw_g (lw_at lw_m3 164 rfl) rfl
theorem q1421 : (Jvm.Cond.instanceMethod ({ cls := "java/lang/Throwable", name := "<init>", desc := "(Ljava/lang/String;)V" } : Jvm.MethodName)) ∈ lw_all := lw_g (lw_at lw_m6 85 rfl) rfl
theorem q1422 : (Jvm.Cond.code ({ cls := "java/lang/Throwable", name := "<init>", desc := "(Ljava/lang/String;)V" } : Jvm.MethodName) prog_36_method_2_code (2 : Nat) (Option.none : Option Jvm.ClassFile.FieldType)) ∈ lw_all := lw_g (lw_at lw_m6 86 rfl) rfl
theorem q2360 : (Jvm.Cond.sameMethod "java/lang/Throwable" "java/lang/Throwable" "fillInStackTrace" "(I)Ljava/lang/Throwable;") ∈ lw_all := lw_g (lw_at lw_m10 64 rfl) rfl
theorem q2383 : (Jvm.Cond.castable "java/lang/Throwable" "java/lang/Object") ∈ lw_tbl := lw_at lw_m10 87 rfl
theorem in_J9 : ∀ w ∈ wsJ90, w ∈ lw_all := lw_in wsJ90 [720, 722, 724, 726, 728] (by decide +kernel) (by decide +kernel)

/-! java/lang/Exception -/
set_option maxRecDepth 100000
def RJ10 : String := "java/lang/Exception"
abbrev cJ10_init : ByteArray := prog_25_method_5_code
def yJ10_init : MethodName := ⟨RJ10, "<init>", "(Ljava/lang/String;Ljava/lang/Throwable;ZZ)V"⟩
def dkwJ10_init_0 : List UInt8 := [42, 43, 44, 29, 21, 4, 183, 0, 16, 177]
abbrev dktJ10_init_0 : List UInt8 := dkwJ10_init_0 ++ []
theorem dksJ10_init_0 : cJ10_init.data.toList.drop 0 = dktJ10_init_0 := by decide +kernel
theorem dJ10_init_0 : decode cJ10_init 0 = .ok (.aload_n 0, 1) := dk_42 (dk_at dksJ10_init_0 0 rfl rfl)
theorem dJ10_init_1 : decode cJ10_init 1 = .ok (.aload_n 1, 1) := dk_43 (dk_at dksJ10_init_0 1 rfl rfl)
theorem dJ10_init_2 : decode cJ10_init 2 = .ok (.aload_n 2, 1) := dk_44 (dk_at dksJ10_init_0 2 rfl rfl)
theorem dJ10_init_3 : decode cJ10_init 3 = .ok (.iload_n 3, 1) := dk_29 (dk_at dksJ10_init_0 3 rfl rfl)
theorem dJ10_init_4 : decode cJ10_init 4 = .ok (.iload 4, 2) := dk_21 4 (dk_at dksJ10_init_0 4 rfl rfl)
theorem dJ10_init_6 : decode cJ10_init 6 = .ok (.invokespecial 16, 3) := dk_183 0 16 (dk_at dksJ10_init_0 6 rfl rfl)
theorem dJ10_init_9 : decode cJ10_init 9 = .ok (.return_, 1) := dk_177 (dk_at dksJ10_init_0 9 rfl rfl)
abbrev cJ10_init_2 : ByteArray := prog_25_method_2_code
def yJ10_init_2 : MethodName := ⟨RJ10, "<init>", "(Ljava/lang/String;)V"⟩
def dkwJ10_init_2_0 : List UInt8 := [42, 43, 183, 0, 7, 177]
abbrev dktJ10_init_2_0 : List UInt8 := dkwJ10_init_2_0 ++ []
theorem dksJ10_init_2_0 : cJ10_init_2.data.toList.drop 0 = dktJ10_init_2_0 := by decide +kernel
theorem dJ10_init_2_0 : decode cJ10_init_2 0 = .ok (.aload_n 0, 1) := dk_42 (dk_at dksJ10_init_2_0 0 rfl rfl)
theorem dJ10_init_2_1 : decode cJ10_init_2 1 = .ok (.aload_n 1, 1) := dk_43 (dk_at dksJ10_init_2_0 1 rfl rfl)
theorem dJ10_init_2_2 : decode cJ10_init_2 2 = .ok (.invokespecial 7, 3) := dk_183 0 7 (dk_at dksJ10_init_2_0 2 rfl rfl)
theorem dJ10_init_2_5 : decode cJ10_init_2 5 = .ok (.return_, 1) := dk_177 (dk_at dksJ10_init_2_0 5 rfl rfl)
theorem q159 : (Jvm.Cond.initialized "java/lang/Exception") ∈ lw_all := lw_g (lw_at lw_m1 23 rfl) rfl
theorem q713 : (Jvm.Cond.declares ({ cls := "java/lang/Exception", name := "<init>", desc := "()V" } : Jvm.MethodName)) ∈ lw_tbl := lw_at lw_m3 97 rfl
theorem q714 : (Jvm.Cond.declares ({ cls := "java/lang/Exception", name := "<init>", desc := "(Ljava/lang/String;)V" } : Jvm.MethodName)) ∈ lw_tbl := lw_at lw_m3 98 rfl
theorem q756 : (Jvm.Cond.instanceMethod ({ cls := "java/lang/Exception", name := "<init>", desc := "(Ljava/lang/String;Ljava/lang/Throwable;ZZ)V" } : Jvm.MethodName)) ∈ lw_all := lw_g (lw_at lw_m3 140 rfl) rfl
theorem q757 : (Jvm.Cond.code ({ cls := "java/lang/Exception", name := "<init>", desc := "(Ljava/lang/String;Ljava/lang/Throwable;ZZ)V" } : Jvm.MethodName) prog_25_method_5_code (5 : Nat) (Option.none : Option Jvm.ClassFile.FieldType)) ∈ lw_all := lw_g (lw_at lw_m3 141 rfl) rfl
theorem q758 : (Jvm.Cond.methodLink "java/lang/Exception" (16 : Nat) ({ cls := "java/lang/Throwable", name := "<init>", desc := "(Ljava/lang/String;Ljava/lang/Throwable;ZZ)V" } : Jvm.MethodName)) ∈ lw_all := lw_g (lw_at lw_m3 142 rfl) rfl
theorem q1418 : (Jvm.Cond.instanceMethod ({ cls := "java/lang/Exception", name := "<init>", desc := "(Ljava/lang/String;)V" } : Jvm.MethodName)) ∈ lw_all := lw_g (lw_at lw_m6 82 rfl) rfl
theorem q1419 : (Jvm.Cond.code ({ cls := "java/lang/Exception", name := "<init>", desc := "(Ljava/lang/String;)V" } : Jvm.MethodName) prog_25_method_2_code (2 : Nat) (Option.none : Option Jvm.ClassFile.FieldType)) ∈ lw_all := lw_g (lw_at lw_m6 83 rfl) rfl
theorem q1420 : (Jvm.Cond.methodLink "java/lang/Exception" (7 : Nat) ({ cls := "java/lang/Throwable", name := "<init>", desc := "(Ljava/lang/String;)V" } : Jvm.MethodName)) ∈ lw_all := lw_g (lw_at lw_m6 84 rfl) rfl

/-! java/lang/RuntimeException -/
set_option maxRecDepth 100000
def RJ11 : String := "java/lang/RuntimeException"
abbrev cJ11_init : ByteArray := prog_31_method_5_code
def yJ11_init : MethodName := ⟨RJ11, "<init>", "(Ljava/lang/String;Ljava/lang/Throwable;ZZ)V"⟩
def dkwJ11_init_0 : List UInt8 := [42, 43, 44, 29, 21, 4, 183, 0, 16, 177]
abbrev dktJ11_init_0 : List UInt8 := dkwJ11_init_0 ++ []
theorem dksJ11_init_0 : cJ11_init.data.toList.drop 0 = dktJ11_init_0 := by decide +kernel
theorem dJ11_init_0 : decode cJ11_init 0 = .ok (.aload_n 0, 1) := dk_42 (dk_at dksJ11_init_0 0 rfl rfl)
theorem dJ11_init_1 : decode cJ11_init 1 = .ok (.aload_n 1, 1) := dk_43 (dk_at dksJ11_init_0 1 rfl rfl)
theorem dJ11_init_2 : decode cJ11_init 2 = .ok (.aload_n 2, 1) := dk_44 (dk_at dksJ11_init_0 2 rfl rfl)
theorem dJ11_init_3 : decode cJ11_init 3 = .ok (.iload_n 3, 1) := dk_29 (dk_at dksJ11_init_0 3 rfl rfl)
theorem dJ11_init_4 : decode cJ11_init 4 = .ok (.iload 4, 2) := dk_21 4 (dk_at dksJ11_init_0 4 rfl rfl)
theorem dJ11_init_6 : decode cJ11_init 6 = .ok (.invokespecial 16, 3) := dk_183 0 16 (dk_at dksJ11_init_0 6 rfl rfl)
theorem dJ11_init_9 : decode cJ11_init 9 = .ok (.return_, 1) := dk_177 (dk_at dksJ11_init_0 9 rfl rfl)
abbrev cJ11_init_2 : ByteArray := prog_31_method_2_code
def yJ11_init_2 : MethodName := ⟨RJ11, "<init>", "(Ljava/lang/String;)V"⟩
def dkwJ11_init_2_0 : List UInt8 := [42, 43, 183, 0, 7, 177]
abbrev dktJ11_init_2_0 : List UInt8 := dkwJ11_init_2_0 ++ []
theorem dksJ11_init_2_0 : cJ11_init_2.data.toList.drop 0 = dktJ11_init_2_0 := by decide +kernel
theorem dJ11_init_2_0 : decode cJ11_init_2 0 = .ok (.aload_n 0, 1) := dk_42 (dk_at dksJ11_init_2_0 0 rfl rfl)
theorem dJ11_init_2_1 : decode cJ11_init_2 1 = .ok (.aload_n 1, 1) := dk_43 (dk_at dksJ11_init_2_0 1 rfl rfl)
theorem dJ11_init_2_2 : decode cJ11_init_2 2 = .ok (.invokespecial 7, 3) := dk_183 0 7 (dk_at dksJ11_init_2_0 2 rfl rfl)
theorem dJ11_init_2_5 : decode cJ11_init_2 5 = .ok (.return_, 1) := dk_177 (dk_at dksJ11_init_2_0 5 rfl rfl)
theorem q160 : (Jvm.Cond.initialized "java/lang/RuntimeException") ∈ lw_all := lw_g (lw_at lw_m1 24 rfl) rfl
theorem q711 : (Jvm.Cond.declares ({ cls := "java/lang/RuntimeException", name := "<init>", desc := "()V" } : Jvm.MethodName)) ∈ lw_tbl := lw_at lw_m3 95 rfl
theorem q712 : (Jvm.Cond.declares ({ cls := "java/lang/RuntimeException", name := "<init>", desc := "(Ljava/lang/String;)V" } : Jvm.MethodName)) ∈ lw_tbl := lw_at lw_m3 96 rfl
theorem q753 : (Jvm.Cond.instanceMethod ({ cls := "java/lang/RuntimeException", name := "<init>", desc := "(Ljava/lang/String;Ljava/lang/Throwable;ZZ)V" } : Jvm.MethodName)) ∈ lw_all := lw_g (lw_at lw_m3 137 rfl) rfl
theorem q754 : (Jvm.Cond.code ({ cls := "java/lang/RuntimeException", name := "<init>", desc := "(Ljava/lang/String;Ljava/lang/Throwable;ZZ)V" } : Jvm.MethodName) prog_31_method_5_code (5 : Nat) (Option.none : Option Jvm.ClassFile.FieldType)) ∈ lw_all := lw_g (lw_at lw_m3 138 rfl) rfl
theorem q755 : (Jvm.Cond.methodLink "java/lang/RuntimeException" (16 : Nat) ({ cls := "java/lang/Exception", name := "<init>", desc := "(Ljava/lang/String;Ljava/lang/Throwable;ZZ)V" } : Jvm.MethodName)) ∈ lw_all := lw_g (lw_at lw_m3 139 rfl) rfl
theorem q1415 : (Jvm.Cond.instanceMethod ({ cls := "java/lang/RuntimeException", name := "<init>", desc := "(Ljava/lang/String;)V" } : Jvm.MethodName)) ∈ lw_all := lw_g (lw_at lw_m6 79 rfl) rfl
theorem q1416 : (Jvm.Cond.code ({ cls := "java/lang/RuntimeException", name := "<init>", desc := "(Ljava/lang/String;)V" } : Jvm.MethodName) prog_31_method_2_code (2 : Nat) (Option.none : Option Jvm.ClassFile.FieldType)) ∈ lw_all := lw_g (lw_at lw_m6 80 rfl) rfl
theorem q1417 : (Jvm.Cond.methodLink "java/lang/RuntimeException" (7 : Nat) ({ cls := "java/lang/Exception", name := "<init>", desc := "(Ljava/lang/String;)V" } : Jvm.MethodName)) ∈ lw_all := lw_g (lw_at lw_m6 81 rfl) rfl

/-! jdk/internal/util/ArraysSupport -/
set_option maxRecDepth 100000
def RJ12 : String := "jdk/internal/util/ArraysSupport"
abbrev cJ12_newLength : ByteArray := prog_48_method_27_code
def yJ12_newLength : MethodName := ⟨RJ12, "newLength", "(III)I"⟩
def dkwJ12_newLength_1 : List UInt8 := [184, 0, 201, 172]
abbrev dktJ12_newLength_1 : List UInt8 := dkwJ12_newLength_1 ++ []
def dkwJ12_newLength_0 : List UInt8 := [26, 27, 28, 184, 0, 194, 96, 62, 3, 29, 162, 0, 11, 29, 18, 200, 163, 0, 5, 29, 172, 26, 27]
abbrev dktJ12_newLength_0 : List UInt8 := dkwJ12_newLength_0 ++ dktJ12_newLength_1
theorem dksJ12_newLength_0 : cJ12_newLength.data.toList.drop 0 = dktJ12_newLength_0 := by decide +kernel
theorem dksJ12_newLength_1 : cJ12_newLength.data.toList.drop 23 = dktJ12_newLength_1 := dk_seg dksJ12_newLength_0 23 rfl rfl
theorem dJ12_newLength_0 : decode cJ12_newLength 0 = .ok (.iload_n 0, 1) := dk_26 (dk_at dksJ12_newLength_0 0 rfl rfl)
theorem dJ12_newLength_1 : decode cJ12_newLength 1 = .ok (.iload_n 1, 1) := dk_27 (dk_at dksJ12_newLength_0 1 rfl rfl)
theorem dJ12_newLength_2 : decode cJ12_newLength 2 = .ok (.iload_n 2, 1) := dk_28 (dk_at dksJ12_newLength_0 2 rfl rfl)
theorem dJ12_newLength_3 : decode cJ12_newLength 3 = .ok (.invokestatic 194, 3) := dk_184 0 194 (dk_at dksJ12_newLength_0 3 rfl rfl)
theorem dJ12_newLength_6 : decode cJ12_newLength 6 = .ok (.iadd, 1) := dk_96 (dk_at dksJ12_newLength_0 6 rfl rfl)
theorem dJ12_newLength_7 : decode cJ12_newLength 7 = .ok (.istore_n 3, 1) := dk_62 (dk_at dksJ12_newLength_0 7 rfl rfl)
theorem dJ12_newLength_8 : decode cJ12_newLength 8 = .ok (.iconst 0, 1) := dk_3 (dk_at dksJ12_newLength_0 8 rfl rfl)
theorem dJ12_newLength_9 : decode cJ12_newLength 9 = .ok (.iload_n 3, 1) := dk_29 (dk_at dksJ12_newLength_0 9 rfl rfl)
theorem dJ12_newLength_10 : decode cJ12_newLength 10 = .ok (.if_icmp .ge 11, 3) := dk_162 0 11 (dk_at dksJ12_newLength_0 10 rfl rfl)
theorem dJ12_newLength_13 : decode cJ12_newLength 13 = .ok (.iload_n 3, 1) := dk_29 (dk_at dksJ12_newLength_0 13 rfl rfl)
theorem dJ12_newLength_14 : decode cJ12_newLength 14 = .ok (.ldc 200, 2) := dk_18 200 (dk_at dksJ12_newLength_0 14 rfl rfl)
theorem dJ12_newLength_16 : decode cJ12_newLength 16 = .ok (.if_icmp .gt 5, 3) := dk_163 0 5 (dk_at dksJ12_newLength_0 16 rfl rfl)
theorem dJ12_newLength_19 : decode cJ12_newLength 19 = .ok (.iload_n 3, 1) := dk_29 (dk_at dksJ12_newLength_0 19 rfl rfl)
theorem dJ12_newLength_20 : decode cJ12_newLength 20 = .ok (.ireturn, 1) := dk_172 (dk_at dksJ12_newLength_0 20 rfl rfl)
theorem dJ12_newLength_21 : decode cJ12_newLength 21 = .ok (.iload_n 0, 1) := dk_26 (dk_at dksJ12_newLength_0 21 rfl rfl)
theorem dJ12_newLength_22 : decode cJ12_newLength 22 = .ok (.iload_n 1, 1) := dk_27 (dk_at dksJ12_newLength_0 22 rfl rfl)
theorem dJ12_newLength_23 : decode cJ12_newLength 23 = .ok (.invokestatic 201, 3) := dk_184 0 201 (dk_at dksJ12_newLength_1 0 rfl rfl)
theorem dJ12_newLength_26 : decode cJ12_newLength 26 = .ok (.ireturn, 1) := dk_172 (dk_at dksJ12_newLength_1 3 rfl rfl)
abbrev cJ12_hugeLength : ByteArray := prog_48_method_28_code
def yJ12_hugeLength : MethodName := ⟨RJ12, "hugeLength", "(II)I"⟩
def dkwJ12_hugeLength_2 : List UInt8 := [191, 28, 18, 200, 163, 0, 6, 18, 200, 172, 28, 172]
abbrev dktJ12_hugeLength_2 : List UInt8 := dkwJ12_hugeLength_2 ++ []
def dkwJ12_hugeLength_1 : List UInt8 := [26, 182, 0, 98, 18, 208, 182, 0, 94, 27, 182, 0, 98, 18, 210, 182, 0, 94, 182, 0, 101, 183, 0, 212]
abbrev dktJ12_hugeLength_1 : List UInt8 := dkwJ12_hugeLength_1 ++ dktJ12_hugeLength_2
def dkwJ12_hugeLength_0 : List UInt8 := [26, 27, 96, 61, 28, 156, 0, 44, 187, 0, 204, 89, 187, 0, 89, 89, 183, 0, 91, 18, 206, 182, 0, 94]
abbrev dktJ12_hugeLength_0 : List UInt8 := dkwJ12_hugeLength_0 ++ dktJ12_hugeLength_1
theorem dksJ12_hugeLength_0 : cJ12_hugeLength.data.toList.drop 0 = dktJ12_hugeLength_0 := by decide +kernel
theorem dksJ12_hugeLength_1 : cJ12_hugeLength.data.toList.drop 24 = dktJ12_hugeLength_1 := dk_seg dksJ12_hugeLength_0 24 rfl rfl
theorem dksJ12_hugeLength_2 : cJ12_hugeLength.data.toList.drop 48 = dktJ12_hugeLength_2 := dk_seg dksJ12_hugeLength_1 24 rfl rfl
theorem dJ12_hugeLength_0 : decode cJ12_hugeLength 0 = .ok (.iload_n 0, 1) := dk_26 (dk_at dksJ12_hugeLength_0 0 rfl rfl)
theorem dJ12_hugeLength_1 : decode cJ12_hugeLength 1 = .ok (.iload_n 1, 1) := dk_27 (dk_at dksJ12_hugeLength_0 1 rfl rfl)
theorem dJ12_hugeLength_2 : decode cJ12_hugeLength 2 = .ok (.iadd, 1) := dk_96 (dk_at dksJ12_hugeLength_0 2 rfl rfl)
theorem dJ12_hugeLength_3 : decode cJ12_hugeLength 3 = .ok (.istore_n 2, 1) := dk_61 (dk_at dksJ12_hugeLength_0 3 rfl rfl)
theorem dJ12_hugeLength_4 : decode cJ12_hugeLength 4 = .ok (.iload_n 2, 1) := dk_28 (dk_at dksJ12_hugeLength_0 4 rfl rfl)
theorem dJ12_hugeLength_5 : decode cJ12_hugeLength 5 = .ok (.ifCond .ge 44, 3) := dk_156 0 44 (dk_at dksJ12_hugeLength_0 5 rfl rfl)
theorem dJ12_hugeLength_8 : decode cJ12_hugeLength 8 = .ok (.new 204, 3) := dk_187 0 204 (dk_at dksJ12_hugeLength_0 8 rfl rfl)
theorem dJ12_hugeLength_11 : decode cJ12_hugeLength 11 = .ok (.dup, 1) := dk_89 (dk_at dksJ12_hugeLength_0 11 rfl rfl)
theorem dJ12_hugeLength_12 : decode cJ12_hugeLength 12 = .ok (.new 89, 3) := dk_187 0 89 (dk_at dksJ12_hugeLength_0 12 rfl rfl)
theorem dJ12_hugeLength_15 : decode cJ12_hugeLength 15 = .ok (.dup, 1) := dk_89 (dk_at dksJ12_hugeLength_0 15 rfl rfl)
theorem dJ12_hugeLength_16 : decode cJ12_hugeLength 16 = .ok (.invokespecial 91, 3) := dk_183 0 91 (dk_at dksJ12_hugeLength_0 16 rfl rfl)
theorem dJ12_hugeLength_19 : decode cJ12_hugeLength 19 = .ok (.ldc 206, 2) := dk_18 206 (dk_at dksJ12_hugeLength_0 19 rfl rfl)
theorem dJ12_hugeLength_21 : decode cJ12_hugeLength 21 = .ok (.invokevirtual 94, 3) := dk_182 0 94 (dk_at dksJ12_hugeLength_0 21 rfl rfl)
theorem dJ12_hugeLength_24 : decode cJ12_hugeLength 24 = .ok (.iload_n 0, 1) := dk_26 (dk_at dksJ12_hugeLength_1 0 rfl rfl)
theorem dJ12_hugeLength_25 : decode cJ12_hugeLength 25 = .ok (.invokevirtual 98, 3) := dk_182 0 98 (dk_at dksJ12_hugeLength_1 1 rfl rfl)
theorem dJ12_hugeLength_28 : decode cJ12_hugeLength 28 = .ok (.ldc 208, 2) := dk_18 208 (dk_at dksJ12_hugeLength_1 4 rfl rfl)
theorem dJ12_hugeLength_30 : decode cJ12_hugeLength 30 = .ok (.invokevirtual 94, 3) := dk_182 0 94 (dk_at dksJ12_hugeLength_1 6 rfl rfl)
theorem dJ12_hugeLength_33 : decode cJ12_hugeLength 33 = .ok (.iload_n 1, 1) := dk_27 (dk_at dksJ12_hugeLength_1 9 rfl rfl)
theorem dJ12_hugeLength_34 : decode cJ12_hugeLength 34 = .ok (.invokevirtual 98, 3) := dk_182 0 98 (dk_at dksJ12_hugeLength_1 10 rfl rfl)
theorem dJ12_hugeLength_37 : decode cJ12_hugeLength 37 = .ok (.ldc 210, 2) := dk_18 210 (dk_at dksJ12_hugeLength_1 13 rfl rfl)
theorem dJ12_hugeLength_39 : decode cJ12_hugeLength 39 = .ok (.invokevirtual 94, 3) := dk_182 0 94 (dk_at dksJ12_hugeLength_1 15 rfl rfl)
theorem dJ12_hugeLength_42 : decode cJ12_hugeLength 42 = .ok (.invokevirtual 101, 3) := dk_182 0 101 (dk_at dksJ12_hugeLength_1 18 rfl rfl)
theorem dJ12_hugeLength_45 : decode cJ12_hugeLength 45 = .ok (.invokespecial 212, 3) := dk_183 0 212 (dk_at dksJ12_hugeLength_1 21 rfl rfl)
theorem dJ12_hugeLength_48 : decode cJ12_hugeLength 48 = .ok (.athrow, 1) := dk_191 (dk_at dksJ12_hugeLength_2 0 rfl rfl)
theorem dJ12_hugeLength_49 : decode cJ12_hugeLength 49 = .ok (.iload_n 2, 1) := dk_28 (dk_at dksJ12_hugeLength_2 1 rfl rfl)
theorem dJ12_hugeLength_50 : decode cJ12_hugeLength 50 = .ok (.ldc 200, 2) := dk_18 200 (dk_at dksJ12_hugeLength_2 2 rfl rfl)
theorem dJ12_hugeLength_52 : decode cJ12_hugeLength 52 = .ok (.if_icmp .gt 6, 3) := dk_163 0 6 (dk_at dksJ12_hugeLength_2 4 rfl rfl)
theorem dJ12_hugeLength_55 : decode cJ12_hugeLength 55 = .ok (.ldc 200, 2) := dk_18 200 (dk_at dksJ12_hugeLength_2 7 rfl rfl)
theorem dJ12_hugeLength_57 : decode cJ12_hugeLength 57 = .ok (.ireturn, 1) := dk_172 (dk_at dksJ12_hugeLength_2 9 rfl rfl)
theorem dJ12_hugeLength_58 : decode cJ12_hugeLength 58 = .ok (.iload_n 2, 1) := dk_28 (dk_at dksJ12_hugeLength_2 10 rfl rfl)
theorem dJ12_hugeLength_59 : decode cJ12_hugeLength 59 = .ok (.ireturn, 1) := dk_172 (dk_at dksJ12_hugeLength_2 11 rfl rfl)
theorem q163 : (Jvm.Cond.initialized "jdk/internal/util/ArraysSupport") ∈ lw_all := lw_g (lw_at lw_m1 27 rfl) rfl
theorem q876 : (Jvm.Cond.static ({ cls := "jdk/internal/util/ArraysSupport", name := "newLength", desc := "(III)I" } : Jvm.MethodName)) ∈ lw_all := lw_g (lw_at lw_m4 20 rfl) rfl
theorem q877 : (Jvm.Cond.code ({ cls := "jdk/internal/util/ArraysSupport", name := "newLength", desc := "(III)I" } : Jvm.MethodName) prog_48_method_27_code (4 : Nat) (Option.some Jvm.ClassFile.FieldType.int)) ∈ lw_all := lw_g (lw_at lw_m4 21 rfl) rfl
theorem q878 : (Jvm.Cond.methodLink "jdk/internal/util/ArraysSupport" (194 : Nat) ({ cls := "java/lang/Math", name := "max", desc := "(II)I" } : Jvm.MethodName)) ∈ lw_all := lw_g (lw_at lw_m4 22 rfl) rfl
theorem q881 : (Jvm.Cond.constant "jdk/internal/util/ArraysSupport" (200 : Nat) (2147483639 : Int32)) ∈ lw_all := lw_g (lw_at lw_m4 25 rfl) rfl
theorem q882 : (Jvm.Cond.methodLink "jdk/internal/util/ArraysSupport" (201 : Nat) ({ cls := "jdk/internal/util/ArraysSupport", name := "hugeLength", desc := "(II)I" } : Jvm.MethodName)) ∈ lw_all := lw_g (lw_at lw_m4 26 rfl) rfl
theorem q883 : (Jvm.Cond.static ({ cls := "jdk/internal/util/ArraysSupport", name := "hugeLength", desc := "(II)I" } : Jvm.MethodName)) ∈ lw_all := lw_g (lw_at lw_m4 27 rfl) rfl
theorem q884 : (Jvm.Cond.code ({ cls := "jdk/internal/util/ArraysSupport", name := "hugeLength", desc := "(II)I" } : Jvm.MethodName) prog_48_method_28_code (3 : Nat) (Option.some Jvm.ClassFile.FieldType.int)) ∈ lw_all := lw_g (lw_at lw_m4 28 rfl) rfl

/-! java/util/Arrays -/
set_option maxRecDepth 100000
def RJ13 : String := "java/util/Arrays"
abbrev cJ13_copyOf : ByteArray := prog_42_method_119_code
def yJ13_copyOf : MethodName := ⟨RJ13, "copyOf", "([Ljava/lang/Object;I)[Ljava/lang/Object;"⟩
def dkwJ13_copyOf_0 : List UInt8 := [42, 27, 42, 182, 0, 86, 184, 1, 44, 176]
abbrev dktJ13_copyOf_0 : List UInt8 := dkwJ13_copyOf_0 ++ []
theorem dksJ13_copyOf_0 : cJ13_copyOf.data.toList.drop 0 = dktJ13_copyOf_0 := by decide +kernel
theorem dJ13_copyOf_0 : decode cJ13_copyOf 0 = .ok (.aload_n 0, 1) := dk_42 (dk_at dksJ13_copyOf_0 0 rfl rfl)
theorem dJ13_copyOf_1 : decode cJ13_copyOf 1 = .ok (.iload_n 1, 1) := dk_27 (dk_at dksJ13_copyOf_0 1 rfl rfl)
theorem dJ13_copyOf_2 : decode cJ13_copyOf 2 = .ok (.aload_n 0, 1) := dk_42 (dk_at dksJ13_copyOf_0 2 rfl rfl)
theorem dJ13_copyOf_3 : decode cJ13_copyOf 3 = .ok (.invokevirtual 86, 3) := dk_182 0 86 (dk_at dksJ13_copyOf_0 3 rfl rfl)
theorem dJ13_copyOf_6 : decode cJ13_copyOf 6 = .ok (.invokestatic 300, 3) := dk_184 1 44 (dk_at dksJ13_copyOf_0 6 rfl rfl)
theorem dJ13_copyOf_9 : decode cJ13_copyOf 9 = .ok (.areturn, 1) := dk_176 (dk_at dksJ13_copyOf_0 9 rfl rfl)
abbrev cJ13_copyOf_2 : ByteArray := prog_42_method_120_code
def yJ13_copyOf_2 : MethodName := ⟨RJ13, "copyOf", "([Ljava/lang/Object;ILjava/lang/Class;)[Ljava/lang/Object;"⟩
def dkwJ13_copyOf_2_1 : List UInt8 := [78, 42, 3, 45, 3, 42, 190, 27, 184, 1, 48, 184, 0, 150, 45, 176]
abbrev dktJ13_copyOf_2_1 : List UInt8 := dkwJ13_copyOf_2_1 ++ []
def dkwJ13_copyOf_2_0 : List UInt8 := [44, 18, 110, 166, 0, 10, 27, 189, 0, 2, 167, 0, 14, 44, 182, 0, 90, 27, 184, 0, 95, 192, 0, 110]
abbrev dktJ13_copyOf_2_0 : List UInt8 := dkwJ13_copyOf_2_0 ++ dktJ13_copyOf_2_1
theorem dksJ13_copyOf_2_0 : cJ13_copyOf_2.data.toList.drop 0 = dktJ13_copyOf_2_0 := by decide +kernel
theorem dksJ13_copyOf_2_1 : cJ13_copyOf_2.data.toList.drop 24 = dktJ13_copyOf_2_1 := dk_seg dksJ13_copyOf_2_0 24 rfl rfl
theorem dJ13_copyOf_2_0 : decode cJ13_copyOf_2 0 = .ok (.aload_n 2, 1) := dk_44 (dk_at dksJ13_copyOf_2_0 0 rfl rfl)
theorem dJ13_copyOf_2_1 : decode cJ13_copyOf_2 1 = .ok (.ldc 110, 2) := dk_18 110 (dk_at dksJ13_copyOf_2_0 1 rfl rfl)
theorem dJ13_copyOf_2_3 : decode cJ13_copyOf_2 3 = .ok (.if_acmp .ne 10, 3) := dk_166 0 10 (dk_at dksJ13_copyOf_2_0 3 rfl rfl)
theorem dJ13_copyOf_2_6 : decode cJ13_copyOf_2 6 = .ok (.iload_n 1, 1) := dk_27 (dk_at dksJ13_copyOf_2_0 6 rfl rfl)
theorem dJ13_copyOf_2_7 : decode cJ13_copyOf_2 7 = .ok (.anewarray 2, 3) := dk_189 0 2 (dk_at dksJ13_copyOf_2_0 7 rfl rfl)
theorem dJ13_copyOf_2_10 : decode cJ13_copyOf_2 10 = .ok (.goto 14, 3) := dk_167 0 14 (dk_at dksJ13_copyOf_2_0 10 rfl rfl)
theorem dJ13_copyOf_2_13 : decode cJ13_copyOf_2 13 = .ok (.aload_n 2, 1) := dk_44 (dk_at dksJ13_copyOf_2_0 13 rfl rfl)
theorem dJ13_copyOf_2_14 : decode cJ13_copyOf_2 14 = .ok (.invokevirtual 90, 3) := dk_182 0 90 (dk_at dksJ13_copyOf_2_0 14 rfl rfl)
theorem dJ13_copyOf_2_17 : decode cJ13_copyOf_2 17 = .ok (.iload_n 1, 1) := dk_27 (dk_at dksJ13_copyOf_2_0 17 rfl rfl)
theorem dJ13_copyOf_2_18 : decode cJ13_copyOf_2 18 = .ok (.invokestatic 95, 3) := dk_184 0 95 (dk_at dksJ13_copyOf_2_0 18 rfl rfl)
theorem dJ13_copyOf_2_21 : decode cJ13_copyOf_2 21 = .ok (.checkcast 110, 3) := dk_192 0 110 (dk_at dksJ13_copyOf_2_0 21 rfl rfl)
theorem dJ13_copyOf_2_24 : decode cJ13_copyOf_2 24 = .ok (.astore_n 3, 1) := dk_78 (dk_at dksJ13_copyOf_2_1 0 rfl rfl)
theorem dJ13_copyOf_2_25 : decode cJ13_copyOf_2 25 = .ok (.aload_n 0, 1) := dk_42 (dk_at dksJ13_copyOf_2_1 1 rfl rfl)
theorem dJ13_copyOf_2_26 : decode cJ13_copyOf_2 26 = .ok (.iconst 0, 1) := dk_3 (dk_at dksJ13_copyOf_2_1 2 rfl rfl)
theorem dJ13_copyOf_2_27 : decode cJ13_copyOf_2 27 = .ok (.aload_n 3, 1) := dk_45 (dk_at dksJ13_copyOf_2_1 3 rfl rfl)
theorem dJ13_copyOf_2_28 : decode cJ13_copyOf_2 28 = .ok (.iconst 0, 1) := dk_3 (dk_at dksJ13_copyOf_2_1 4 rfl rfl)
theorem dJ13_copyOf_2_29 : decode cJ13_copyOf_2 29 = .ok (.aload_n 0, 1) := dk_42 (dk_at dksJ13_copyOf_2_1 5 rfl rfl)
theorem dJ13_copyOf_2_30 : decode cJ13_copyOf_2 30 = .ok (.arraylength, 1) := dk_190 (dk_at dksJ13_copyOf_2_1 6 rfl rfl)
theorem dJ13_copyOf_2_31 : decode cJ13_copyOf_2 31 = .ok (.iload_n 1, 1) := dk_27 (dk_at dksJ13_copyOf_2_1 7 rfl rfl)
theorem dJ13_copyOf_2_32 : decode cJ13_copyOf_2 32 = .ok (.invokestatic 304, 3) := dk_184 1 48 (dk_at dksJ13_copyOf_2_1 8 rfl rfl)
theorem dJ13_copyOf_2_35 : decode cJ13_copyOf_2 35 = .ok (.invokestatic 150, 3) := dk_184 0 150 (dk_at dksJ13_copyOf_2_1 11 rfl rfl)
theorem dJ13_copyOf_2_38 : decode cJ13_copyOf_2 38 = .ok (.aload_n 3, 1) := dk_45 (dk_at dksJ13_copyOf_2_1 14 rfl rfl)
theorem dJ13_copyOf_2_39 : decode cJ13_copyOf_2 39 = .ok (.areturn, 1) := dk_176 (dk_at dksJ13_copyOf_2_1 15 rfl rfl)
theorem q164 : (Jvm.Cond.initialized "java/util/Arrays") ∈ lw_all := lw_g (lw_at lw_m1 28 rfl) rfl
theorem q886 : (Jvm.Cond.static ({ cls := "java/util/Arrays", name := "copyOf", desc := "([Ljava/lang/Object;I)[Ljava/lang/Object;" } : Jvm.MethodName)) ∈ lw_all := lw_g (lw_at lw_m4 30 rfl) rfl
theorem q887 : (Jvm.Cond.code ({ cls := "java/util/Arrays", name := "copyOf", desc := "([Ljava/lang/Object;I)[Ljava/lang/Object;" } : Jvm.MethodName) prog_42_method_119_code (2 : Nat) (Option.some (Jvm.ClassFile.FieldType.array (Jvm.ClassFile.FieldType.object "java/lang/Object")))) ∈ lw_all := lw_g (lw_at lw_m4 31 rfl) rfl
theorem q888 : (Jvm.Cond.methodLink "java/util/Arrays" (86 : Nat) ({ cls := "java/lang/Object", name := "getClass", desc := "()Ljava/lang/Class;" } : Jvm.MethodName)) ∈ lw_all := lw_g (lw_at lw_m4 32 rfl) rfl
theorem q910 : (Jvm.Cond.methodLink "java/util/Arrays" (300 : Nat) ({ cls := "java/util/Arrays", name := "copyOf", desc := "([Ljava/lang/Object;ILjava/lang/Class;)[Ljava/lang/Object;" } : Jvm.MethodName)) ∈ lw_all := lw_g (lw_at lw_m4 54 rfl) rfl
theorem q911 : (Jvm.Cond.static ({ cls := "java/util/Arrays", name := "copyOf", desc := "([Ljava/lang/Object;ILjava/lang/Class;)[Ljava/lang/Object;" } : Jvm.MethodName)) ∈ lw_all := lw_g (lw_at lw_m4 55 rfl) rfl
theorem q912 : (Jvm.Cond.code ({ cls := "java/util/Arrays", name := "copyOf", desc := "([Ljava/lang/Object;ILjava/lang/Class;)[Ljava/lang/Object;" } : Jvm.MethodName) prog_42_method_120_code (4 : Nat) (Option.some (Jvm.ClassFile.FieldType.array (Jvm.ClassFile.FieldType.object "java/lang/Object")))) ∈ lw_all := lw_g (lw_at lw_m4 56 rfl) rfl
theorem q913 : (Jvm.Cond.classLink "java/util/Arrays" (110 : Nat) "[Ljava/lang/Object;") ∈ lw_all := lw_g (lw_at lw_m4 57 rfl) rfl
theorem q914 : (Jvm.Cond.classLink "java/util/Arrays" (2 : Nat) "java/lang/Object") ∈ lw_all := lw_g (lw_at lw_m4 58 rfl) rfl
theorem q915 : (Jvm.Cond.methodLink "java/util/Arrays" (304 : Nat) ({ cls := "java/lang/Math", name := "min", desc := "(II)I" } : Jvm.MethodName)) ∈ lw_all := lw_g (lw_at lw_m4 59 rfl) rfl
theorem q916 : (Jvm.Cond.methodLink "java/util/Arrays" (150 : Nat) ({ cls := "java/lang/System", name := "arraycopy", desc := "(Ljava/lang/Object;ILjava/lang/Object;II)V" } : Jvm.MethodName)) ∈ lw_all := lw_g (lw_at lw_m4 60 rfl) rfl

/-! java/lang/Integer -/
set_option maxRecDepth 100000
def RJ14 : String := "java/lang/Integer"
abbrev cJ14_bitCount : ByteArray := prog_27_method_49_code
def yJ14_bitCount : MethodName := ⟨RJ14, "bitCount", "(I)I"⟩
def dkwJ14_bitCount_2 : List UInt8 := [26, 16, 63, 126, 172]
abbrev dktJ14_bitCount_2 : List UInt8 := dkwJ14_bitCount_2 ++ []
def dkwJ14_bitCount_1 : List UInt8 := [26, 26, 7, 124, 96, 19, 1, 11, 126, 59, 26, 26, 16, 8, 124, 96, 59, 26, 26, 16, 16, 124, 96, 59]
abbrev dktJ14_bitCount_1 : List UInt8 := dkwJ14_bitCount_1 ++ dktJ14_bitCount_2
def dkwJ14_bitCount_0 : List UInt8 := [26, 26, 4, 124, 19, 1, 9, 126, 100, 59, 26, 19, 1, 10, 126, 26, 5, 124, 19, 1, 10, 126, 96, 59]
abbrev dktJ14_bitCount_0 : List UInt8 := dkwJ14_bitCount_0 ++ dktJ14_bitCount_1
theorem dksJ14_bitCount_0 : cJ14_bitCount.data.toList.drop 0 = dktJ14_bitCount_0 := by decide +kernel
theorem dksJ14_bitCount_1 : cJ14_bitCount.data.toList.drop 24 = dktJ14_bitCount_1 := dk_seg dksJ14_bitCount_0 24 rfl rfl
theorem dksJ14_bitCount_2 : cJ14_bitCount.data.toList.drop 48 = dktJ14_bitCount_2 := dk_seg dksJ14_bitCount_1 24 rfl rfl
theorem dJ14_bitCount_0 : decode cJ14_bitCount 0 = .ok (.iload_n 0, 1) := dk_26 (dk_at dksJ14_bitCount_0 0 rfl rfl)
theorem dJ14_bitCount_1 : decode cJ14_bitCount 1 = .ok (.iload_n 0, 1) := dk_26 (dk_at dksJ14_bitCount_0 1 rfl rfl)
theorem dJ14_bitCount_2 : decode cJ14_bitCount 2 = .ok (.iconst 1, 1) := dk_4 (dk_at dksJ14_bitCount_0 2 rfl rfl)
theorem dJ14_bitCount_3 : decode cJ14_bitCount 3 = .ok (.iushr, 1) := dk_124 (dk_at dksJ14_bitCount_0 3 rfl rfl)
theorem dJ14_bitCount_4 : decode cJ14_bitCount 4 = .ok (.ldc_w 265, 3) := dk_19 1 9 (dk_at dksJ14_bitCount_0 4 rfl rfl)
theorem dJ14_bitCount_7 : decode cJ14_bitCount 7 = .ok (.iand, 1) := dk_126 (dk_at dksJ14_bitCount_0 7 rfl rfl)
theorem dJ14_bitCount_8 : decode cJ14_bitCount 8 = .ok (.isub, 1) := dk_100 (dk_at dksJ14_bitCount_0 8 rfl rfl)
theorem dJ14_bitCount_9 : decode cJ14_bitCount 9 = .ok (.istore_n 0, 1) := dk_59 (dk_at dksJ14_bitCount_0 9 rfl rfl)
theorem dJ14_bitCount_10 : decode cJ14_bitCount 10 = .ok (.iload_n 0, 1) := dk_26 (dk_at dksJ14_bitCount_0 10 rfl rfl)
theorem dJ14_bitCount_11 : decode cJ14_bitCount 11 = .ok (.ldc_w 266, 3) := dk_19 1 10 (dk_at dksJ14_bitCount_0 11 rfl rfl)
theorem dJ14_bitCount_14 : decode cJ14_bitCount 14 = .ok (.iand, 1) := dk_126 (dk_at dksJ14_bitCount_0 14 rfl rfl)
theorem dJ14_bitCount_15 : decode cJ14_bitCount 15 = .ok (.iload_n 0, 1) := dk_26 (dk_at dksJ14_bitCount_0 15 rfl rfl)
theorem dJ14_bitCount_16 : decode cJ14_bitCount 16 = .ok (.iconst 2, 1) := dk_5 (dk_at dksJ14_bitCount_0 16 rfl rfl)
theorem dJ14_bitCount_17 : decode cJ14_bitCount 17 = .ok (.iushr, 1) := dk_124 (dk_at dksJ14_bitCount_0 17 rfl rfl)
theorem dJ14_bitCount_18 : decode cJ14_bitCount 18 = .ok (.ldc_w 266, 3) := dk_19 1 10 (dk_at dksJ14_bitCount_0 18 rfl rfl)
theorem dJ14_bitCount_21 : decode cJ14_bitCount 21 = .ok (.iand, 1) := dk_126 (dk_at dksJ14_bitCount_0 21 rfl rfl)
theorem dJ14_bitCount_22 : decode cJ14_bitCount 22 = .ok (.iadd, 1) := dk_96 (dk_at dksJ14_bitCount_0 22 rfl rfl)
theorem dJ14_bitCount_23 : decode cJ14_bitCount 23 = .ok (.istore_n 0, 1) := dk_59 (dk_at dksJ14_bitCount_0 23 rfl rfl)
theorem dJ14_bitCount_24 : decode cJ14_bitCount 24 = .ok (.iload_n 0, 1) := dk_26 (dk_at dksJ14_bitCount_1 0 rfl rfl)
theorem dJ14_bitCount_25 : decode cJ14_bitCount 25 = .ok (.iload_n 0, 1) := dk_26 (dk_at dksJ14_bitCount_1 1 rfl rfl)
theorem dJ14_bitCount_26 : decode cJ14_bitCount 26 = .ok (.iconst 4, 1) := dk_7 (dk_at dksJ14_bitCount_1 2 rfl rfl)
theorem dJ14_bitCount_27 : decode cJ14_bitCount 27 = .ok (.iushr, 1) := dk_124 (dk_at dksJ14_bitCount_1 3 rfl rfl)
theorem dJ14_bitCount_28 : decode cJ14_bitCount 28 = .ok (.iadd, 1) := dk_96 (dk_at dksJ14_bitCount_1 4 rfl rfl)
theorem dJ14_bitCount_29 : decode cJ14_bitCount 29 = .ok (.ldc_w 267, 3) := dk_19 1 11 (dk_at dksJ14_bitCount_1 5 rfl rfl)
theorem dJ14_bitCount_32 : decode cJ14_bitCount 32 = .ok (.iand, 1) := dk_126 (dk_at dksJ14_bitCount_1 8 rfl rfl)
theorem dJ14_bitCount_33 : decode cJ14_bitCount 33 = .ok (.istore_n 0, 1) := dk_59 (dk_at dksJ14_bitCount_1 9 rfl rfl)
theorem dJ14_bitCount_34 : decode cJ14_bitCount 34 = .ok (.iload_n 0, 1) := dk_26 (dk_at dksJ14_bitCount_1 10 rfl rfl)
theorem dJ14_bitCount_35 : decode cJ14_bitCount 35 = .ok (.iload_n 0, 1) := dk_26 (dk_at dksJ14_bitCount_1 11 rfl rfl)
theorem dJ14_bitCount_36 : decode cJ14_bitCount 36 = .ok (.bipush 8, 2) := dk_16 8 (dk_at dksJ14_bitCount_1 12 rfl rfl)
theorem dJ14_bitCount_38 : decode cJ14_bitCount 38 = .ok (.iushr, 1) := dk_124 (dk_at dksJ14_bitCount_1 14 rfl rfl)
theorem dJ14_bitCount_39 : decode cJ14_bitCount 39 = .ok (.iadd, 1) := dk_96 (dk_at dksJ14_bitCount_1 15 rfl rfl)
theorem dJ14_bitCount_40 : decode cJ14_bitCount 40 = .ok (.istore_n 0, 1) := dk_59 (dk_at dksJ14_bitCount_1 16 rfl rfl)
theorem dJ14_bitCount_41 : decode cJ14_bitCount 41 = .ok (.iload_n 0, 1) := dk_26 (dk_at dksJ14_bitCount_1 17 rfl rfl)
theorem dJ14_bitCount_42 : decode cJ14_bitCount 42 = .ok (.iload_n 0, 1) := dk_26 (dk_at dksJ14_bitCount_1 18 rfl rfl)
theorem dJ14_bitCount_43 : decode cJ14_bitCount 43 = .ok (.bipush 16, 2) := dk_16 16 (dk_at dksJ14_bitCount_1 19 rfl rfl)
theorem dJ14_bitCount_45 : decode cJ14_bitCount 45 = .ok (.iushr, 1) := dk_124 (dk_at dksJ14_bitCount_1 21 rfl rfl)
theorem dJ14_bitCount_46 : decode cJ14_bitCount 46 = .ok (.iadd, 1) := dk_96 (dk_at dksJ14_bitCount_1 22 rfl rfl)
theorem dJ14_bitCount_47 : decode cJ14_bitCount 47 = .ok (.istore_n 0, 1) := dk_59 (dk_at dksJ14_bitCount_1 23 rfl rfl)
theorem dJ14_bitCount_48 : decode cJ14_bitCount 48 = .ok (.iload_n 0, 1) := dk_26 (dk_at dksJ14_bitCount_2 0 rfl rfl)
theorem dJ14_bitCount_49 : decode cJ14_bitCount 49 = .ok (.bipush 63, 2) := dk_16 63 (dk_at dksJ14_bitCount_2 1 rfl rfl)
theorem dJ14_bitCount_51 : decode cJ14_bitCount 51 = .ok (.iand, 1) := dk_126 (dk_at dksJ14_bitCount_2 3 rfl rfl)
theorem dJ14_bitCount_52 : decode cJ14_bitCount 52 = .ok (.ireturn, 1) := dk_172 (dk_at dksJ14_bitCount_2 4 rfl rfl)
theorem q168 : (Jvm.Cond.initialized "java/lang/Integer") ∈ lw_all := lw_g (lw_at lw_m1 32 rfl) rfl
theorem q1088 : (Jvm.Cond.static ({ cls := "java/lang/Integer", name := "bitCount", desc := "(I)I" } : Jvm.MethodName)) ∈ lw_all := lw_g (lw_at lw_m4 232 rfl) rfl
theorem q1089 : (Jvm.Cond.code ({ cls := "java/lang/Integer", name := "bitCount", desc := "(I)I" } : Jvm.MethodName) prog_27_method_49_code (1 : Nat) (Option.some Jvm.ClassFile.FieldType.int)) ∈ lw_all := lw_g (lw_at lw_m4 233 rfl) rfl
theorem q1090 : (Jvm.Cond.constant "java/lang/Integer" (265 : Nat) (1431655765 : Int32)) ∈ lw_all := lw_g (lw_at lw_m4 234 rfl) rfl
theorem q1091 : (Jvm.Cond.constant "java/lang/Integer" (266 : Nat) (858993459 : Int32)) ∈ lw_all := lw_g (lw_at lw_m4 235 rfl) rfl
theorem q1092 : (Jvm.Cond.constant "java/lang/Integer" (267 : Nat) (252645135 : Int32)) ∈ lw_all := lw_g (lw_at lw_m4 236 rfl) rfl

/-! java/lang/Float -/
set_option maxRecDepth 100000
def RJ15 : String := "java/lang/Float"
abbrev cJ15_floatToIntBits : ByteArray := prog_26_method_24_code
def yJ15_floatToIntBits : MethodName := ⟨RJ15, "floatToIntBits", "(F)I"⟩
def dkwJ15_floatToIntBits_0 : List UInt8 := [34, 184, 0, 59, 154, 0, 8, 34, 184, 0, 74, 172, 18, 77, 172]
abbrev dktJ15_floatToIntBits_0 : List UInt8 := dkwJ15_floatToIntBits_0 ++ []
theorem dksJ15_floatToIntBits_0 : cJ15_floatToIntBits.data.toList.drop 0 = dktJ15_floatToIntBits_0 := by decide +kernel
theorem dJ15_floatToIntBits_0 : decode cJ15_floatToIntBits 0 = .ok (.fload_n 0, 1) := dk_34 (dk_at dksJ15_floatToIntBits_0 0 rfl rfl)
theorem dJ15_floatToIntBits_1 : decode cJ15_floatToIntBits 1 = .ok (.invokestatic 59, 3) := dk_184 0 59 (dk_at dksJ15_floatToIntBits_0 1 rfl rfl)
theorem dJ15_floatToIntBits_4 : decode cJ15_floatToIntBits 4 = .ok (.ifCond .ne 8, 3) := dk_154 0 8 (dk_at dksJ15_floatToIntBits_0 4 rfl rfl)
theorem dJ15_floatToIntBits_7 : decode cJ15_floatToIntBits 7 = .ok (.fload_n 0, 1) := dk_34 (dk_at dksJ15_floatToIntBits_0 7 rfl rfl)
theorem dJ15_floatToIntBits_8 : decode cJ15_floatToIntBits 8 = .ok (.invokestatic 74, 3) := dk_184 0 74 (dk_at dksJ15_floatToIntBits_0 8 rfl rfl)
theorem dJ15_floatToIntBits_11 : decode cJ15_floatToIntBits 11 = .ok (.ireturn, 1) := dk_172 (dk_at dksJ15_floatToIntBits_0 11 rfl rfl)
theorem dJ15_floatToIntBits_12 : decode cJ15_floatToIntBits 12 = .ok (.ldc 77, 2) := dk_18 77 (dk_at dksJ15_floatToIntBits_0 12 rfl rfl)
theorem dJ15_floatToIntBits_14 : decode cJ15_floatToIntBits 14 = .ok (.ireturn, 1) := dk_172 (dk_at dksJ15_floatToIntBits_0 14 rfl rfl)
abbrev cJ15_isNaN : ByteArray := prog_26_method_6_code
def yJ15_isNaN : MethodName := ⟨RJ15, "isNaN", "(F)Z"⟩
def dkwJ15_isNaN_0 : List UInt8 := [34, 34, 149, 153, 0, 7, 4, 167, 0, 4, 3, 172]
abbrev dktJ15_isNaN_0 : List UInt8 := dkwJ15_isNaN_0 ++ []
theorem dksJ15_isNaN_0 : cJ15_isNaN.data.toList.drop 0 = dktJ15_isNaN_0 := by decide +kernel
theorem dJ15_isNaN_0 : decode cJ15_isNaN 0 = .ok (.fload_n 0, 1) := dk_34 (dk_at dksJ15_isNaN_0 0 rfl rfl)
theorem dJ15_isNaN_1 : decode cJ15_isNaN 1 = .ok (.fload_n 0, 1) := dk_34 (dk_at dksJ15_isNaN_0 1 rfl rfl)
theorem dJ15_isNaN_2 : decode cJ15_isNaN 2 = .ok (.fcmp .l, 1) := dk_149 (dk_at dksJ15_isNaN_0 2 rfl rfl)
theorem dJ15_isNaN_3 : decode cJ15_isNaN 3 = .ok (.ifCond .eq 7, 3) := dk_153 0 7 (dk_at dksJ15_isNaN_0 3 rfl rfl)
theorem dJ15_isNaN_6 : decode cJ15_isNaN 6 = .ok (.iconst 1, 1) := dk_4 (dk_at dksJ15_isNaN_0 6 rfl rfl)
theorem dJ15_isNaN_7 : decode cJ15_isNaN 7 = .ok (.goto 4, 3) := dk_167 0 4 (dk_at dksJ15_isNaN_0 7 rfl rfl)
theorem dJ15_isNaN_10 : decode cJ15_isNaN 10 = .ok (.iconst 0, 1) := dk_3 (dk_at dksJ15_isNaN_0 10 rfl rfl)
theorem dJ15_isNaN_11 : decode cJ15_isNaN 11 = .ok (.ireturn, 1) := dk_172 (dk_at dksJ15_isNaN_0 11 rfl rfl)
theorem q169 : (Jvm.Cond.initialized "java/lang/Float") ∈ lw_all := lw_g (lw_at lw_m1 33 rfl) rfl
theorem q1134 : (Jvm.Cond.static ({ cls := "java/lang/Float", name := "floatToIntBits", desc := "(F)I" } : Jvm.MethodName)) ∈ lw_all := lw_g (lw_at lw_m5 38 rfl) rfl
theorem q1135 : (Jvm.Cond.code ({ cls := "java/lang/Float", name := "floatToIntBits", desc := "(F)I" } : Jvm.MethodName) prog_26_method_24_code (1 : Nat) (Option.some Jvm.ClassFile.FieldType.int)) ∈ lw_all := lw_g (lw_at lw_m5 39 rfl) rfl
theorem q1136 : (Jvm.Cond.methodLink "java/lang/Float" (59 : Nat) ({ cls := "java/lang/Float", name := "isNaN", desc := "(F)Z" } : Jvm.MethodName)) ∈ lw_all := lw_g (lw_at lw_m5 40 rfl) rfl
theorem q1137 : (Jvm.Cond.static ({ cls := "java/lang/Float", name := "isNaN", desc := "(F)Z" } : Jvm.MethodName)) ∈ lw_all := lw_g (lw_at lw_m5 41 rfl) rfl
theorem q1138 : (Jvm.Cond.code ({ cls := "java/lang/Float", name := "isNaN", desc := "(F)Z" } : Jvm.MethodName) prog_26_method_6_code (1 : Nat) (Option.some Jvm.ClassFile.FieldType.boolean)) ∈ lw_all := lw_g (lw_at lw_m5 42 rfl) rfl
theorem q1139 : (Jvm.Cond.methodLink "java/lang/Float" (74 : Nat) ({ cls := "java/lang/Float", name := "floatToRawIntBits", desc := "(F)I" } : Jvm.MethodName)) ∈ lw_all := lw_g (lw_at lw_m5 43 rfl) rfl
theorem q1140 : (Jvm.Cond.static ({ cls := "java/lang/Float", name := "floatToRawIntBits", desc := "(F)I" } : Jvm.MethodName)) ∈ lw_all := lw_g (lw_at lw_m5 44 rfl) rfl
theorem q1141 : (Jvm.Cond.native ({ cls := "java/lang/Float", name := "floatToRawIntBits", desc := "(F)I" } : Jvm.MethodName)) ∈ lw_all := lw_g (lw_at lw_m5 45 rfl) rfl
theorem q1142 : (Jvm.Cond.constant "java/lang/Float" (77 : Nat) (2143289344 : Int32)) ∈ lw_all := lw_g (lw_at lw_m5 46 rfl) rfl

/-! java/lang/Double -/
set_option maxRecDepth 100000
def RJ16 : String := "java/lang/Double"
abbrev cJ16_doubleToLongBits : ByteArray := prog_24_method_23_code
def yJ16_doubleToLongBits : MethodName := ⟨RJ16, "doubleToLongBits", "(D)J"⟩
def dkwJ16_doubleToLongBits_0 : List UInt8 := [38, 184, 0, 122, 154, 0, 8, 38, 184, 0, 134, 173, 20, 0, 137, 173]
abbrev dktJ16_doubleToLongBits_0 : List UInt8 := dkwJ16_doubleToLongBits_0 ++ []
theorem dksJ16_doubleToLongBits_0 : cJ16_doubleToLongBits.data.toList.drop 0 = dktJ16_doubleToLongBits_0 := by decide +kernel
theorem dJ16_doubleToLongBits_0 : decode cJ16_doubleToLongBits 0 = .ok (.dload_n 0, 1) := dk_38 (dk_at dksJ16_doubleToLongBits_0 0 rfl rfl)
theorem dJ16_doubleToLongBits_1 : decode cJ16_doubleToLongBits 1 = .ok (.invokestatic 122, 3) := dk_184 0 122 (dk_at dksJ16_doubleToLongBits_0 1 rfl rfl)
theorem dJ16_doubleToLongBits_4 : decode cJ16_doubleToLongBits 4 = .ok (.ifCond .ne 8, 3) := dk_154 0 8 (dk_at dksJ16_doubleToLongBits_0 4 rfl rfl)
theorem dJ16_doubleToLongBits_7 : decode cJ16_doubleToLongBits 7 = .ok (.dload_n 0, 1) := dk_38 (dk_at dksJ16_doubleToLongBits_0 7 rfl rfl)
theorem dJ16_doubleToLongBits_8 : decode cJ16_doubleToLongBits 8 = .ok (.invokestatic 134, 3) := dk_184 0 134 (dk_at dksJ16_doubleToLongBits_0 8 rfl rfl)
theorem dJ16_doubleToLongBits_11 : decode cJ16_doubleToLongBits 11 = .ok (.lreturn, 1) := dk_173 (dk_at dksJ16_doubleToLongBits_0 11 rfl rfl)
theorem dJ16_doubleToLongBits_12 : decode cJ16_doubleToLongBits 12 = .ok (.ldc2_w 137, 3) := dk_20 0 137 (dk_at dksJ16_doubleToLongBits_0 12 rfl rfl)
theorem dJ16_doubleToLongBits_15 : decode cJ16_doubleToLongBits 15 = .ok (.lreturn, 1) := dk_173 (dk_at dksJ16_doubleToLongBits_0 15 rfl rfl)
abbrev cJ16_isNaN : ByteArray := prog_24_method_6_code
def yJ16_isNaN : MethodName := ⟨RJ16, "isNaN", "(D)Z"⟩
def dkwJ16_isNaN_0 : List UInt8 := [38, 38, 151, 153, 0, 7, 4, 167, 0, 4, 3, 172]
abbrev dktJ16_isNaN_0 : List UInt8 := dkwJ16_isNaN_0 ++ []
theorem dksJ16_isNaN_0 : cJ16_isNaN.data.toList.drop 0 = dktJ16_isNaN_0 := by decide +kernel
theorem dJ16_isNaN_0 : decode cJ16_isNaN 0 = .ok (.dload_n 0, 1) := dk_38 (dk_at dksJ16_isNaN_0 0 rfl rfl)
theorem dJ16_isNaN_1 : decode cJ16_isNaN 1 = .ok (.dload_n 0, 1) := dk_38 (dk_at dksJ16_isNaN_0 1 rfl rfl)
theorem dJ16_isNaN_2 : decode cJ16_isNaN 2 = .ok (.dcmp .l, 1) := dk_151 (dk_at dksJ16_isNaN_0 2 rfl rfl)
theorem dJ16_isNaN_3 : decode cJ16_isNaN 3 = .ok (.ifCond .eq 7, 3) := dk_153 0 7 (dk_at dksJ16_isNaN_0 3 rfl rfl)
theorem dJ16_isNaN_6 : decode cJ16_isNaN 6 = .ok (.iconst 1, 1) := dk_4 (dk_at dksJ16_isNaN_0 6 rfl rfl)
theorem dJ16_isNaN_7 : decode cJ16_isNaN 7 = .ok (.goto 4, 3) := dk_167 0 4 (dk_at dksJ16_isNaN_0 7 rfl rfl)
theorem dJ16_isNaN_10 : decode cJ16_isNaN 10 = .ok (.iconst 0, 1) := dk_3 (dk_at dksJ16_isNaN_0 10 rfl rfl)
theorem dJ16_isNaN_11 : decode cJ16_isNaN 11 = .ok (.ireturn, 1) := dk_172 (dk_at dksJ16_isNaN_0 11 rfl rfl)
theorem q171 : (Jvm.Cond.initialized "java/lang/Double") ∈ lw_all := lw_g (lw_at lw_m1 35 rfl) rfl
theorem q1367 : (Jvm.Cond.static ({ cls := "java/lang/Double", name := "doubleToLongBits", desc := "(D)J" } : Jvm.MethodName)) ∈ lw_all := lw_g (lw_at lw_m6 31 rfl) rfl
theorem q1368 : (Jvm.Cond.code ({ cls := "java/lang/Double", name := "doubleToLongBits", desc := "(D)J" } : Jvm.MethodName) prog_24_method_23_code (2 : Nat) (Option.some Jvm.ClassFile.FieldType.long)) ∈ lw_all := lw_g (lw_at lw_m6 32 rfl) rfl
theorem q1369 : (Jvm.Cond.methodLink "java/lang/Double" (122 : Nat) ({ cls := "java/lang/Double", name := "isNaN", desc := "(D)Z" } : Jvm.MethodName)) ∈ lw_all := lw_g (lw_at lw_m6 33 rfl) rfl
theorem q1370 : (Jvm.Cond.static ({ cls := "java/lang/Double", name := "isNaN", desc := "(D)Z" } : Jvm.MethodName)) ∈ lw_all := lw_g (lw_at lw_m6 34 rfl) rfl
theorem q1371 : (Jvm.Cond.code ({ cls := "java/lang/Double", name := "isNaN", desc := "(D)Z" } : Jvm.MethodName) prog_24_method_6_code (2 : Nat) (Option.some Jvm.ClassFile.FieldType.boolean)) ∈ lw_all := lw_g (lw_at lw_m6 35 rfl) rfl
theorem q1372 : (Jvm.Cond.methodLink "java/lang/Double" (134 : Nat) ({ cls := "java/lang/Double", name := "doubleToRawLongBits", desc := "(D)J" } : Jvm.MethodName)) ∈ lw_all := lw_g (lw_at lw_m6 36 rfl) rfl
theorem q1373 : (Jvm.Cond.static ({ cls := "java/lang/Double", name := "doubleToRawLongBits", desc := "(D)J" } : Jvm.MethodName)) ∈ lw_all := lw_g (lw_at lw_m6 37 rfl) rfl
theorem q1374 : (Jvm.Cond.native ({ cls := "java/lang/Double", name := "doubleToRawLongBits", desc := "(D)J" } : Jvm.MethodName)) ∈ lw_all := lw_g (lw_at lw_m6 38 rfl) rfl
theorem q1375 : (Jvm.Cond.constantLong "java/lang/Double" (137 : Nat) (9221120237041090560 : Int64)) ∈ lw_all := lw_g (lw_at lw_m6 39 rfl) rfl

/-! java/lang/ArrayStoreException -/
set_option maxRecDepth 100000
def RJ17 : String := "java/lang/ArrayStoreException"
def TJ17 : u_T := fun k => match k with
  | 0 => ("java/lang/Throwable", "backtrace", "Ljava/lang/Object;", false)
  | 1 => ("java/lang/Throwable", "detailMessage", "Ljava/lang/String;", false)
  | 2 => ("java/lang/Throwable", "cause", "Ljava/lang/Throwable;", false)
  | 3 => ("java/lang/Throwable", "stackTrace", "[Ljava/lang/StackTraceElement;", false)
  | 4 => ("java/lang/Throwable", "depth", "I", false)
  | _ => ("java/lang/Throwable", "suppressedExceptions", "Ljava/util/List;", false)
def tyJ17 : Nat → FieldType := fun k => match k with
  | 0 => .object "java/lang/Object"
  | 1 => .object "java/lang/String"
  | 2 => .object "java/lang/Throwable"
  | 3 => .array (.object "java/lang/StackTraceElement")
  | 4 => .int
  | _ => .object "java/util/List"
abbrev wsJ170 : List Cond := u_ws RJ17 TJ17 6
theorem nmJ17 : ∀ a, a < 6 → ∀ b, b < 6 → a ≠ b → (TJ17 a).2.1 ≠ (TJ17 b).2.1 := by decide +kernel
theorem tyJ17_ok : ∀ k, k < 6 → parseFieldDescriptor (TJ17 k).2.2.1 = some (tyJ17 k) := by decide +kernel
abbrev cJ17_init : ByteArray := prog_20_method_2_code
def yJ17_init : MethodName := ⟨RJ17, "<init>", "(Ljava/lang/String;)V"⟩
def dkwJ17_init_0 : List UInt8 := [42, 43, 183, 0, 7, 177]
abbrev dktJ17_init_0 : List UInt8 := dkwJ17_init_0 ++ []
theorem dksJ17_init_0 : cJ17_init.data.toList.drop 0 = dktJ17_init_0 := by decide +kernel
theorem dJ17_init_0 : decode cJ17_init 0 = .ok (.aload_n 0, 1) := dk_42 (dk_at dksJ17_init_0 0 rfl rfl)
theorem dJ17_init_1 : decode cJ17_init 1 = .ok (.aload_n 1, 1) := dk_43 (dk_at dksJ17_init_0 1 rfl rfl)
theorem dJ17_init_2 : decode cJ17_init 2 = .ok (.invokespecial 7, 3) := dk_183 0 7 (dk_at dksJ17_init_0 2 rfl rfl)
theorem dJ17_init_5 : decode cJ17_init 5 = .ok (.return_, 1) := dk_177 (dk_at dksJ17_init_0 5 rfl rfl)
theorem q173 : (Jvm.Cond.initialized "java/lang/ArrayStoreException") ∈ lw_all := lw_g (lw_at lw_m1 37 rfl) rfl
theorem q742 : (Jvm.Cond.selects "java/lang/ArrayStoreException" ({ cls := "java/lang/Throwable", name := "fillInStackTrace", desc := "()Ljava/lang/Throwable;" } : Jvm.MethodName) ({ cls := "java/lang/Throwable", name := "fillInStackTrace", desc := "()Ljava/lang/Throwable;" } : Jvm.MethodName)) ∈ lw_all := lw_g (lw_at lw_m3 126 rfl) rfl
theorem q907 : (Jvm.Cond.selects "java/lang/ArrayStoreException" ({ cls := "java/lang/Object", name := "getClass", desc := "()Ljava/lang/Class;" } : Jvm.MethodName) ({ cls := "java/lang/Object", name := "getClass", desc := "()Ljava/lang/Class;" } : Jvm.MethodName)) ∈ lw_all := lw_g (lw_at lw_m4 51 rfl) rfl
theorem q1411 : (Jvm.Cond.instantiable "java/lang/ArrayStoreException" (6 : Nat)) ∈ lw_all := lw_g (lw_at lw_m6 75 rfl) rfl
theorem q1412 : (Jvm.Cond.instanceMethod ({ cls := "java/lang/ArrayStoreException", name := "<init>", desc := "(Ljava/lang/String;)V" } : Jvm.MethodName)) ∈ lw_all := lw_g (lw_at lw_m6 76 rfl) rfl
theorem q1413 : (Jvm.Cond.code ({ cls := "java/lang/ArrayStoreException", name := "<init>", desc := "(Ljava/lang/String;)V" } : Jvm.MethodName) prog_20_method_2_code (2 : Nat) (Option.none : Option Jvm.ClassFile.FieldType)) ∈ lw_all := lw_g (lw_at lw_m6 77 rfl) rfl
theorem q1414 : (Jvm.Cond.methodLink "java/lang/ArrayStoreException" (7 : Nat) ({ cls := "java/lang/RuntimeException", name := "<init>", desc := "(Ljava/lang/String;)V" } : Jvm.MethodName)) ∈ lw_all := lw_g (lw_at lw_m6 78 rfl) rfl
theorem q1423 : (Jvm.Cond.lays "java/lang/ArrayStoreException" "java/lang/Throwable" "backtrace" "Ljava/lang/Object;") ∈ lw_all := lw_g (lw_at lw_m6 87 rfl) rfl
theorem q1424 : (Jvm.Cond.lays "java/lang/ArrayStoreException" "java/lang/Throwable" "detailMessage" "Ljava/lang/String;") ∈ lw_all := lw_g (lw_at lw_m6 88 rfl) rfl
theorem q1425 : (Jvm.Cond.lays "java/lang/ArrayStoreException" "java/lang/Throwable" "cause" "Ljava/lang/Throwable;") ∈ lw_all := lw_g (lw_at lw_m6 89 rfl) rfl
theorem q1426 : (Jvm.Cond.lays "java/lang/ArrayStoreException" "java/lang/Throwable" "stackTrace" "[Ljava/lang/StackTraceElement;") ∈ lw_all := lw_g (lw_at lw_m6 90 rfl) rfl
theorem q1427 : (Jvm.Cond.lays "java/lang/ArrayStoreException" "java/lang/Throwable" "depth" "I") ∈ lw_all := lw_g (lw_at lw_m6 91 rfl) rfl
theorem q1428 : (Jvm.Cond.lays "java/lang/ArrayStoreException" "java/lang/Throwable" "suppressedExceptions" "Ljava/util/List;") ∈ lw_all := lw_g (lw_at lw_m6 92 rfl) rfl
theorem q1429 : (Jvm.Cond.superclass "java/lang/ArrayStoreException" "java/lang/RuntimeException") ∈ lw_all := lw_g (lw_at lw_m6 93 rfl) rfl
theorem q1430 : (Jvm.Cond.castable "java/lang/ArrayStoreException" "java/lang/ArrayStoreException") ∈ lw_tbl := lw_at lw_m6 94 rfl
theorem q1431 : (Jvm.Cond.selects "java/lang/ArrayStoreException" ({ cls := "java/lang/Throwable", name := "fillInStackTrace", desc := "(I)Ljava/lang/Throwable;" } : Jvm.MethodName) ({ cls := "java/lang/Throwable", name := "fillInStackTrace", desc := "(I)Ljava/lang/Throwable;" } : Jvm.MethodName)) ∈ lw_all := lw_g (lw_at lw_m6 95 rfl) rfl
theorem q2382 : (Jvm.Cond.castable "java/lang/ArrayStoreException" "java/lang/Object") ∈ lw_tbl := lw_at lw_m10 86 rfl
theorem in_J17 : ∀ w ∈ wsJ170, w ∈ lw_all := lw_in wsJ170 [1423, 1424, 1425, 1426, 1427, 1428] (by decide +kernel) (by decide +kernel)

/-! java/lang/Object -/
set_option maxRecDepth 100000
def RJ18 : String := "java/lang/Object"
abbrev cJ18_init : ByteArray := object_method_1_code
def yJ18_init : MethodName := ⟨RJ18, "<init>", "()V"⟩
theorem dJ18_init_0 : decode cJ18_init 0 = .ok (.return_, 1) := by decide +kernel
theorem q180 : (Jvm.Cond.instanceMethod ({ cls := "java/lang/Object", name := "<init>", desc := "()V" } : Jvm.MethodName)) ∈ lw_all := lw_g (lw_at lw_m1 44 rfl) rfl
theorem q181 : (Jvm.Cond.code ({ cls := "java/lang/Object", name := "<init>", desc := "()V" } : Jvm.MethodName) object_method_1_code (1 : Nat) (Option.none : Option Jvm.ClassFile.FieldType)) ∈ lw_all := lw_g (lw_at lw_m1 45 rfl) rfl
theorem q889 : (Jvm.Cond.instanceMethod ({ cls := "java/lang/Object", name := "getClass", desc := "()Ljava/lang/Class;" } : Jvm.MethodName)) ∈ lw_all := lw_g (lw_at lw_m4 33 rfl) rfl
theorem q890 : (Jvm.Cond.sameMethod "java/lang/Object" "java/lang/Object" "getClass" "()Ljava/lang/Class;") ∈ lw_all := lw_g (lw_at lw_m4 34 rfl) rfl
theorem q909 : (Jvm.Cond.native ({ cls := "java/lang/Object", name := "getClass", desc := "()Ljava/lang/Class;" } : Jvm.MethodName)) ∈ lw_all := lw_g (lw_at lw_m4 53 rfl) rfl
theorem q1485 : (Jvm.Cond.native ({ cls := "java/lang/Object", name := "clone", desc := "()Ljava/lang/Object;" } : Jvm.MethodName)) ∈ lw_all := lw_g (lw_at lw_m6 149 rfl) rfl
theorem q1486 : (Jvm.Cond.instanceMethod ({ cls := "java/lang/Object", name := "clone", desc := "()Ljava/lang/Object;" } : Jvm.MethodName)) ∈ lw_all := lw_g (lw_at lw_m6 150 rfl) rfl
theorem q2363 : (Jvm.Cond.initialized "java/lang/Object") ∈ lw_all := lw_g (lw_at lw_m10 67 rfl) rfl
theorem q2389 : (Jvm.Cond.declares ({ cls := "java/lang/Object", name := "getClass", desc := "()Ljava/lang/Class;" } : Jvm.MethodName)) ∈ lw_tbl := lw_at lw_m10 93 rfl
